/-! floats: the component rounds, whole; bits of what came out -/
set_option maxRecDepth 100000
section Cs
variable {u k j t kd fl md : Nat} {c : Nat → Nat} {S : Nat → Prop} {M N X : FM} {sg : Bool} {e : Int} {V w : Nat}
theorem X61_r106 (o : FlC u c M) (hk : k < 4) (ht : t ≤ 1) (hm : md ≤ 4) (hS : S k) {U n : Nat} {u2 : Int} {sm : Prop} (hs : M.1 115 (c k) 0 = bz (sg = true)) (hw : wv M (c (4 + k)) = U) (hU : U ≤ 2 ^ (fF t + 1)) (hn : n ≤ 3) (hu : 1 - (fG t : Int) - fF t ≤ u2 ∧ u2 ≤ 90000) :
    ∃ X, (HX61_round_106 (c (10 + t)) (c k) (1 + md) (c 12) (Int32.ofInt u2) (bz sm) (nI n) M ∧ GX61_round_106 (c (10 + t)) (c k) (1 + md) (c 12) (Int32.ofInt u2) (bz sm) (nI n) M =
      (lN (if (fG t : Int) < (if U = 2 ^ (fF t + 1) then u2 + 1 else u2) + fF t then (if lps md sg = true then pk t sg (2 * fG t + 1) 0 else pk t sg (2 * fG t) (2 ^ fF t - 1))
        else if (if U = 2 ^ (fF t + 1) then 2 ^ fF t else U) < 2 ^ fF t then pk t sg 0 (if U = 2 ^ (fF t + 1) then 2 ^ fF t else U) else pk t sg ((if U = 2 ^ (fF t + 1) then u2 + 1 else u2) + fF t + fG t).toNat ((if U = 2 ^ (fF t + 1) then 2 ^ fF t else U) - 2 ^ fF t)), X)) ∧
      Cf c S (if (fG t : Int) < (if U = 2 ^ (fF t + 1) then u2 + 1 else u2) + fF t then 5 else fi (n = 0) 0 (fi sm 3 1)) M X := by
  obtain ⟨b, b2⟩ := p2F ht
  have fm := (o.2.2.2.2.1 t (by omega)).2.2.1
  obtain ⟨-, l2, -, -⟩ := o.2.2.2.1 k hk
  obtain ⟨x1, x2⟩ := X62_length (w := c (4 + k)) o.1
  rw [hw] at x2
  unfold HX61_round_106 GX61_round_106
  dsimp only
  rw [l2, x2]
  dsimp only
  rw [fm.1, iz_a, propext (ni_le (k := bln U) (z := (fF t : Int) + 1) (by have := bln_le (show U < 2 ^ (fF t + 2) by rw [Nat.pow_succ, Nat.mul_comm]; have := Nat.two_pow_pos (fF t + 1); omega); omega)), l2]
  by_cases q : U = 2 ^ (fF t + 1)
  · have hb : bln U = fF t + 2 := bln_u (by rw [q]; exact Nat.pow_lt_pow_right (by decide) (by omega)) (Or.inr (by rw [q]; exact Nat.le_refl _))
    have c1 : ¬ ((bln U : Int) ≤ (fF t : Int) + 1) := by omega
    have ct := X62_cut (M := M) (w := c (4 + k)) (z := 1) (by omega) (fun _ => by rw [hw]; show U * 2 ^ 1 < w128; unfold w128; rw [q]; rcases b with b | b <;> rw [b.2.1] <;> decide)
    rw [hw] at ct
    have eU : cuU U 1 = 2 ^ fF t := by
      unfold cuU
      rw [if_neg (by decide)]
      show U / 2 ^ 1 = _
      omega
    rw [eU] at ct
    rw [fi_neg c1, if_pos q, if_pos q, ct.1, iz_a]
    dsimp only
    have w1 := cf_W (S := S) o hk (2 ^ fF t) hS
    have o1 := cf_o o w1
    obtain ⟨X, ⟨y1, y2⟩, y3⟩ := X61_r134 (S := S) (M := wSF (c (4 + k)) (2 ^ fF t) M) (sm := sm) (u3 := u2 + 1) (n := n) o1 hk ht hm hs (wv_wS ct.2) (by omega) hn (by omega)
    refine ⟨X, ⟨⟨x1, fun z => absurd z c1, fun _ => ?_⟩, y2⟩, cf_0t w1 y3⟩
    exact y1
  · have hb : bln U ≤ fF t + 1 := bln_le (by omega)
    have c1 : (bln U : Int) ≤ (fF t : Int) + 1 := by omega
    rw [fi_pos c1, if_neg q, if_neg q]
    obtain ⟨X, ⟨y1, y2⟩, y3⟩ := X61_r134 (S := S) (M := M) (sm := sm) (u3 := u2) (n := n) o hk ht hm hs hw (by omega) hn (by omega)
    exact ⟨X, ⟨⟨x1, fun _ => y1, fun z => absurd c1 z⟩, y2⟩, y3⟩
/-- a number, not 0, is rounded -/
theorem X61_round (o : FlC u c M) (d : Odf M) (hk : k < 4) (ht : t ≤ 1) (hm : md ≤ 4) (hS : S k) (hv : TkV c k M 1 sg) (hn : TkN c k M e V) (h0 : V ≠ 0) (hb : bln V ≤ 127) (he : -9000 ≤ e ∧ e ≤ 9000) :
    ∃ X, (HX61_round (c (10 + t)) (c k) (1 + md) (c 12) M ∧ GX61_round (c (10 + t)) (c k) (1 + md) (c 12) M = (lN (rnd t md sg V e false).1, X)) ∧ Cf c S (rnd t md sg V e false).2 M X := by
  obtain ⟨b, b2⟩ := p2F ht
  have bp := bln_pos h0
  have fm := (o.2.2.2.2.1 t (by omega)).2.2.1
  obtain ⟨-, lT, -, -, -⟩ := o.2.2.2.2.1 t (by omega)
  obtain ⟨-, l2, -, -⟩ := o.2.2.2.1 k hk
  obtain ⟨x1, x2⟩ := X62_length (w := c (4 + k)) o.1
  rw [hn.2] at x2
  have neT : c (4 + k) ≠ c (8 + t) := o.2.2.1 (4 + k) (by omega) (8 + t) (by omega) (by omega)
  have hV : V < w128 := by rw [← hn.2]; exact wv_lt
  generalize htop : (bln V : Int) - 1 + e = top at *
  have ex3 : Int32.ofInt e + nI (bln V) - Int32.ofInt 1 = Int32.ofInt top := by rw [iz_nI, iz_a, iz_s]; congr 1; omega
  have ex1 : Int32.ofInt 1 - Int32.ofInt (fG t : Int) = Int32.ofInt (1 - (fG t : Int)) := iz_s
  have cb : ∀ z : Int, (bln V : Int) - 1 - fF t ≤ z → z ≤ 2 → V * 2 ^ (2 - z).toNat < w128 := fun z h1 h2 => by
    have h := bln_lt V
    refine Nat.lt_of_lt_of_le (Nat.mul_lt_mul_of_pos_right h (Nat.two_pow_pos _)) ?_
    rw [← Nat.pow_add, w128_p]
    exact Nat.pow_le_pow_right (by decide) (by omega)
  have cb2 : ∀ z : Int, (bln V : Int) - 1 - fF t ≤ z → cuU V z + 1 < w128 := fun z h1 => by
    have h := cuU_lt (A := V) (k := fF t + 1) (d := z) (by omega)
    have : 2 ^ (fF t + 1) + 1 < w128 := by unfold w128; omega
    omega
  -- behind the test
  have r61 : ∀ (sm : Prop) (K : FM) (u2 : Int), FlC u c K → Odf K → TkV c k K 1 sg → TkN c k K e V → (bln V : Int) - 1 - fF t ≤ u2 - e → 1 - (fG t : Int) - fF t ≤ u2 → u2 ≤ 20000 →
      ∃ X, (HX61_round_61 (c (10 + t)) (c k) (1 + md) (c 12) (Int32.ofInt u2) (bz sm) K ∧ GX61_round_61 (c (10 + t)) (c k) (1 + md) (c 12) (Int32.ofInt u2) (bz sm) K =
        (lN (if (fG t : Int) < (if rnU md sg V false (u2 - e) = 2 ^ (fF t + 1) then u2 + 1 else u2) + fF t then (if lps md sg = true then pk t sg (2 * fG t + 1) 0 else pk t sg (2 * fG t) (2 ^ fF t - 1))
        else if (if rnU md sg V false (u2 - e) = 2 ^ (fF t + 1) then 2 ^ fF t else rnU md sg V false (u2 - e)) < 2 ^ fF t then pk t sg 0 (if rnU md sg V false (u2 - e) = 2 ^ (fF t + 1) then 2 ^ fF t else rnU md sg V false (u2 - e)) else pk t sg ((if rnU md sg V false (u2 - e) = 2 ^ (fF t + 1) then u2 + 1 else u2) + fF t + fG t).toNat ((if rnU md sg V false (u2 - e) = 2 ^ (fF t + 1) then 2 ^ fF t else rnU md sg V false (u2 - e)) - 2 ^ fF t)), X)) ∧
      Cf c S (if (fG t : Int) < (if rnU md sg V false (u2 - e) = 2 ^ (fF t + 1) then u2 + 1 else u2) + fF t then 5 else fi (cuC V false (u2 - e) = 0) 0 (fi sm 3 1)) K X := fun sm K u2 oK dK vK nK h1 h2 h3 => by
    obtain ⟨-, lK, -, -⟩ := oK.2.2.2.1 k hk
    obtain ⟨g1, g2, g3, g4⟩ := cg (sg := sg) (M := K) (w := c (4 + k)) (V := V) (md := md) hm (dK md (by omega)).1 nK.2 (z := u2 - e) (by omega) (fun q => cb _ h1 (by omega)) (fun _ => cb2 _ h1)
    have w1 := cf_W (S := S) oK hk (rnU md sg V false (u2 - e)) hS
    have o1 := cf_o oK w1
    have hU : rnU md sg V false (u2 - e) ≤ 2 ^ (fF t + 1) := rnU_le (by omega)
    have lt : rnU md sg V false (u2 - e) < w128 := by
      have : 2 ^ (fF t + 1) < w128 := by unfold w128; omega
      omega
    obtain ⟨X, ⟨y1, y2⟩, y3⟩ := X61_r106 (S := S) (M := wSF (c (4 + k)) (rnU md sg V false (u2 - e)) K) (sm := sm) (n := cuC V false (u2 - e)) (u2 := u2) o1 hk ht hm hS vK.2 (wv_wS lt) hU cuC_h.2.2 (by omega)
    have gg := g3 (wSF (c (4 + k)) (cuU V (u2 - e)) K) (dK md (by omega)).1
    refine ⟨X, ⟨?_, ?_⟩, cf_0t w1 y3⟩
    · unfold HX61_round_61
      dsimp only
      rw [lK, nK.1, iz_s, g1]
      dsimp only
      rw [show (wSF (c (4 + k)) (cuU V (u2 - e)) K).2.2 117 (c k) 0 = c (4 + k) from lK, g2]
      dsimp only
      rw [show (wSF (c (4 + k)) (cuU V (u2 - e)) K).1 115 (c k) 0 = bz (sg = true) from vK.2, gg]
      dsimp only
      rw [show (wSF (c (4 + k)) (cuU V (u2 - e)) K).2.2 117 (c k) 0 = c (4 + k) from lK]
      refine ⟨fun z => ?_, fun z => ?_⟩
      · rw [fi_neg (fun y => by rw [bz_t y] at z; exact absurd z (by decide))] at g4
        rw [g4]
        exact y1
      · rw [fi_pos (Classical.byContradiction (fun y => z (bz_0.mpr y)))] at g4
        rw [g4]
        exact y1
    · rw [← y2, ← g4]
      unfold GX61_round_61
      dsimp only
      rw [lK, nK.1, iz_s, g1]
      dsimp only
      rw [show (wSF (c (4 + k)) (cuU V (u2 - e)) K).2.2 117 (c k) 0 = c (4 + k) from lK, g2]
      dsimp only
      rw [show (wSF (c (4 + k)) (cuU V (u2 - e)) K).1 115 (c k) 0 = bz (sg = true) from vK.2, gg]
      dsimp only
      rw [show (wSF (c (4 + k)) (cuU V (u2 - e)) K).2.2 117 (c k) 0 = c (4 + k) from lK, fi_bz]
      exact (fi_ap (fun z => GX61_round_106 (c (10 + t)) (c k) (1 + md) (c 12) (Int32.ofInt u2) (bz sm) (nI (cuC V false (u2 - e))) z)).symm
  -- whether a number that is small reaches the least whole one
  have rch : ∃ K, (HX61_reaches (c (10 + t)) (c k) (1 + md) (Int32.ofInt top) M ∧ GX61_reaches (c (10 + t)) (c k) (1 + md) (Int32.ofInt top) M = (bz (top = -(fG t : Int) ∧ rnU md sg V false (top - fF t - e) = 2 ^ (fF t + 1)), K)) ∧ Cf c S 0 M K ∧ TkV c k K 1 sg ∧ TkN c k K e V := by
    unfold HX61_reaches HX61_reaches_0 GX61_reaches GX61_reaches_0
    rw [fm.2.1, iz_n, propext (iz_eq (a := top) (b := -(fG t : Int)) (by omega))]
    by_cases q : top = -(fG t : Int)
    · rw [fi_pos q]
      dsimp only
      rw [lT, l2, X62_copy neT, hn.2, show (wSF (c (8 + t)) V M).1 116 (c k) 0 = Int32.ofInt e from hn.1, show (wSF (c (8 + t)) V M).1 109 (c (10 + t)) 0 = Int32.ofInt (fF t : Int) from fm.1, show (wSF (c (8 + t)) V M).2.2 112 (c (10 + t)) 0 = c (8 + t) from lT, iz_s, iz_s]
      obtain ⟨g1, g2, g3, g4⟩ := cg (sg := sg) (M := wSF (c (8 + t)) V M) (w := c (8 + t)) (V := V) (md := md) hm (d md (by omega)).1 (wv_wS hV) (z := top - fF t - e) (by omega) (fun q => cb _ (by omega) (by omega)) (fun _ => cb2 _ (by omega))
      rw [g1]
      dsimp only
      rw [wS_wS] at g2 ⊢
      rw [wS_wS, wS_wS] at g4
      rw [show (wSF (c (8 + t)) (cuU V (top - fF t - e)) M).2.2 112 (c (10 + t)) 0 = c (8 + t) from lT, g2]
      dsimp only
      rw [show (wSF (c (8 + t)) (cuU V (top - fF t - e)) M).1 115 (c k) 0 = bz (sg = true) from hv.2, g3 (wSF (c (8 + t)) (cuU V (top - fF t - e)) M) (d md (by omega)).1]
      dsimp only
      rw [show (wSF (c (8 + t)) (cuU V (top - fF t - e)) M).2.2 112 (c (10 + t)) 0 = c (8 + t) from lT, fi_bz]
      have hU : rnU md sg V false (top - fF t - e) ≤ 2 ^ (fF t + 1) := rnU_le (by omega)
      have lt : rnU md sg V false (top - fF t - e) < w128 := by
        have : 2 ^ (fF t + 1) < w128 := by unfold w128; omega
        omega
      have r69 : HX61_reaches_69 (c (10 + t)) (wSF (c (8 + t)) (rnU md sg V false (top - fF t - e)) M) ∧ GX61_reaches_69 (c (10 + t)) (wSF (c (8 + t)) (rnU md sg V false (top - fF t - e)) M) = (bz (top = -(fG t : Int) ∧ rnU md sg V false (top - fF t - e) = 2 ^ (fF t + 1)), wSF (c (8 + t)) (rnU md sg V false (top - fF t - e)) M) := by
        obtain ⟨y1, y2⟩ := X62_length (w := c (8 + t)) (wS_ty (w := c (8 + t)) (V := rnU md sg V false (top - fF t - e)) o.1)
        rw [wv_wS lt] at y2
        unfold HX61_reaches_69 GX61_reaches_69 GX61_reaches_90
        dsimp only
        rw [show (wSF (c (8 + t)) (rnU md sg V false (top - fF t - e)) M).2.2 112 (c (10 + t)) 0 = c (8 + t) from lT, y2]
        dsimp only
        rw [show (wSF (c (8 + t)) (rnU md sg V false (top - fF t - e)) M).1 109 (c (10 + t)) 0 = Int32.ofInt (fF t : Int) from fm.1, iz_a]
        refine ⟨⟨y1, trivial⟩, ?_⟩
        generalize rnU md sg V false (top - fF t - e) = U at *
        have bU : bln U ≤ fF t + 2 := bln_le (by rw [Nat.pow_succ, Nat.mul_comm]; have := Nat.two_pow_pos (fF t + 1); omega)
        rw [propext (ni_le (k := bln U) (z := (fF t : Int) + 1) (by omega))]
        by_cases qU : U = 2 ^ (fF t + 1)
        · have := bln_gt (N := U) (k := fF t + 1) (by omega)
          rw [fi_neg (by omega), bz_t ⟨q, qU⟩]
        · have := bln_le (N := U) (k := fF t + 1) (by omega)
          rw [fi_pos (by omega), bz_f (fun z => qU z.2)]
      have w1 := cf_T (S := S) o (show t < 2 by omega) (rnU md sg V false (top - fF t - e))
      refine ⟨wSF (c (8 + t)) (rnU md sg V false (top - fF t - e)) M, ⟨⟨fun _ => ⟨fun z => ?_, fun z => ?_⟩, fun z => absurd q z⟩, ?_⟩, w1, hv, hn.1, ?_⟩
      · rw [fi_neg (fun y => by rw [bz_t y] at z; exact absurd z (by decide))] at g4
        rw [g4]
        exact r69.1
      · rw [fi_pos (Classical.byContradiction (fun y => z (bz_0.mpr y)))] at g4
        rw [g4]
        exact r69.1
      · rw [← r69.2, ← g4]
        exact (fi_ap (fun z => GX61_reaches_69 (c (10 + t)) z)).symm
      · rw [← hn.2]
        exact wv_o neT
    · rw [fi_neg q]
      exact ⟨M, ⟨⟨fun z => absurd z q, fun _ => trivial⟩, by rw [bz_f (fun z => q z.1)]⟩, cf_r o.1, hv, hn⟩
  have sF : ¬ (top < 1 - (fG t : Int) ∧ ¬ (top = -(fG t : Int) ∧ rnU md sg V false (top - fF t - e) = 2 ^ (fF t + 1))) → bz (top < 1 - (fG t : Int) ∧ ¬ (top = -(fG t : Int) ∧ rnU md sg V false (top - fF t - e) = 2 ^ (fF t + 1))) = Int32.ofInt 0 := bz_f
  have sT : (top < 1 - (fG t : Int) ∧ ¬ (top = -(fG t : Int) ∧ rnU md sg V false (top - fF t - e) = 2 ^ (fF t + 1))) → bz (top < 1 - (fG t : Int) ∧ ¬ (top = -(fG t : Int) ∧ rnU md sg V false (top - fF t - e) = 2 ^ (fF t + 1))) = Int32.ofInt 1 := bz_t
  have mx : GJ5_max (Int32.ofInt top) (Int32.ofInt (1 - (fG t : Int))) M = (Int32.ofInt (if 1 - (fG t : Int) - fF t ≤ top - fF t then top else 1 - (fG t : Int)), M) := by
    unfold GJ5_max GJ5_max_0 GJ5_max_10
    rw [propext (iz_lt (a := top) (b := 1 - (fG t : Int)) (by omega))]
    by_cases q : top < 1 - (fG t : Int)
    · rw [fi_pos q, if_neg (by omega)]
    · rw [fi_neg q, if_pos (by omega)]
  have eu2 : Int32.ofInt (if 1 - (fG t : Int) - fF t ≤ top - fF t then top else 1 - (fG t : Int)) - Int32.ofInt (fF t : Int) = Int32.ofInt (if 1 - (fG t : Int) - fF t ≤ top - fF t then top - fF t else 1 - (fG t : Int) - fF t) := by
    rw [iz_s]
    congr 1
    split <;> rfl
  have hr1 : (rnd t md sg V e false).1 = (let u2 : Int := if 1 - (fG t : Int) - fF t ≤ top - fF t then top - fF t else 1 - (fG t : Int) - fF t
    if (fG t : Int) < (if rnU md sg V false (u2 - e) = 2 ^ (fF t + 1) then u2 + 1 else u2) + fF t then (if lps md sg = true then pk t sg (2 * fG t + 1) 0 else pk t sg (2 * fG t) (2 ^ fF t - 1))
        else if (if rnU md sg V false (u2 - e) = 2 ^ (fF t + 1) then 2 ^ fF t else rnU md sg V false (u2 - e)) < 2 ^ fF t then pk t sg 0 (if rnU md sg V false (u2 - e) = 2 ^ (fF t + 1) then 2 ^ fF t else rnU md sg V false (u2 - e)) else pk t sg ((if rnU md sg V false (u2 - e) = 2 ^ (fF t + 1) then u2 + 1 else u2) + fF t + fG t).toNat ((if rnU md sg V false (u2 - e) = 2 ^ (fF t + 1) then 2 ^ fF t else rnU md sg V false (u2 - e)) - 2 ^ fF t)) := by
    unfold rnd
    rw [htop]
  have hr2 : (rnd t md sg V e false).2 = (let u2 : Int := if 1 - (fG t : Int) - fF t ≤ top - fF t then top - fF t else 1 - (fG t : Int) - fF t
    if (fG t : Int) < (if rnU md sg V false (u2 - e) = 2 ^ (fF t + 1) then u2 + 1 else u2) + fF t then 5 else fi (cuC V false (u2 - e) = 0) 0 (fi (top < 1 - (fG t : Int) ∧ ¬ (top = -(fG t : Int) ∧ rnU md sg V false (top - fF t - e) = 2 ^ (fF t + 1))) 3 1)) := by
    unfold rnd
    rw [htop]
    dsimp only
    rw [fi_if, fi_if]
  rw [hr1, hr2]
  dsimp only
  generalize hu2 : (if 1 - (fG t : Int) - fF t ≤ top - fF t then top - fF t else 1 - (fG t : Int) - fF t) = u2 at *
  have bu2 : 1 - (fG t : Int) - fF t ≤ u2 ∧ top - fF t ≤ u2 ∧ u2 ≤ 15000 := by split at hu2 <;> omega
  obtain ⟨K, ⟨k1, k2⟩, k3, k4, k5⟩ := rch
  have oK := cf_o o k3
  unfold HX61_round HX61_round_0 GX61_round GX61_round_0 HX61_round_60 GX61_round_60
  dsimp only
  rw [l2, x2]
  dsimp only
  rw [hn.1, fm.2.1, ex3, ex1, mx]
  dsimp only
  rw [fm.1, fm.2.1, ex1, eu2, k2, propext (iz_le (a := 1 - (fG t : Int)) (b := top) (by omega))]
  dsimp only
  rw [fi_bz]
  by_cases q : 1 - (fG t : Int) ≤ top
  · obtain ⟨X, ⟨y1, y2⟩, y3⟩ := r61 (top < 1 - (fG t : Int) ∧ ¬ (top = -(fG t : Int) ∧ rnU md sg V false (top - fF t - e) = 2 ^ (fF t + 1))) M u2 o d hv hn (by omega) (by omega) (by omega)
    rw [sF (fun z => by omega)] at y1 y2
    rw [fi_pos q]
    exact ⟨X, ⟨⟨x1, fun _ => y1, fun z => absurd q z⟩, y2⟩, y3⟩
  · rw [fi_neg q]
    obtain ⟨X, ⟨y1, y2⟩, y3⟩ := r61 (top < 1 - (fG t : Int) ∧ ¬ (top = -(fG t : Int) ∧ rnU md sg V false (top - fF t - e) = 2 ^ (fF t + 1))) K u2 oK (frC_od k3.1 d) k4 k5 (by omega) (by omega) (by omega)
    by_cases q2 : top = -(fG t : Int) ∧ rnU md sg V false (top - fF t - e) = 2 ^ (fF t + 1)
    · rw [sF (fun z => z.2 q2)] at y1 y2
      rw [fi_pos q2]
      exact ⟨X, ⟨⟨x1, fun z => absurd z q, fun _ => ⟨k1, fun z => absurd q2 (bz_0.mp z), fun _ => y1⟩⟩, y2⟩, cf_0t k3 y3⟩
    · rw [sT ⟨by omega, q2⟩] at y1 y2
      rw [fi_neg q2]
      exact ⟨X, ⟨⟨x1, fun z => absurd z q, fun _ => ⟨k1, fun _ => y1, fun z => absurd (bz_0.mpr q2) z⟩⟩, y2⟩, cf_0t k3 y3⟩
end Cs
