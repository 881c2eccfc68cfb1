/-! floats: the component's unit: integers -/
set_option maxRecDepth 100000
/-- a value given, flags raised -/
def GvC (u : Nat) (c : Nat → Nat) (rg : Nat) (s : Fs) (R : Int64 × Nat) (M N : FM) : Prop := FrU u c rg M N ∧ VFc u c rg N (sVal R.1 (sFl R.2 s))
section Ix
variable {u rg b md t : Nat} {c : Nat → Nat} {M N K : FM} {s : Fs} {w : Int32} {X : UU} {S : Nat → Prop}
theorem X64_take (o : FlU u c rg M) (hb : b < 4) (hS : S 0) (v : Int64) : Cf c S 0 M (GX64_take (11 + b) v (c 0) M) ∧ Ou c 0 md (GX64_take (11 + b) v (c 0) M) (frI b v) := by
  obtain ⟨w1, w2⟩ := whF o hb
  have K : ∀ (sg : Bool) (x : Int64), sg = ngI b (ownI b v) → x = (if ngI b (ownI b v) = true then -(ownI b v) else ownI b v) → ∀ N, N = GX71_number (c 0) (bz (sg = true)) x (Int32.ofInt 0) M → Cf c S 0 M N ∧ Ou c 0 md N (frI b v) := fun sg x h1 h2 N hN => by
    obtain ⟨a1, a2, a3, -⟩ := X71_number (S := S) (sg := sg) (e := 0) o.1 (show 0 < 4 by decide) x hS
    rw [← hN] at a1 a2 a3
    have hx := ul_lt x
    refine ⟨a1, (if ul x = 0 then 0 else 1, sg, ul x, 0), ⟨a2, fun _ => a3⟩, ?_, fun y => ⟨fun z => ?_, ?_, by dsimp only; omega, by dsimp only; omega⟩, fun t _ => ?_⟩
    · dsimp only
      split <;> omega
    · have y : (if ul x = 0 then 0 else 1) = 1 := y
      have z : ul x = 0 := z
      rw [if_pos z] at y
      exact absurd y (by decide)
    · exact Nat.le_trans (bln_le (k := 64) hx) (by decide)
    · unfold frI
      rw [← h2, ← h1]
  have own : GX64_take (11 + b) v (c 0) M = GX64_take_31 (11 + b) (c 0) (ownI b v) M := by
    unfold GX64_take GX64_take_0
    rw [w1, w2, fi_bz]
    unfold ownI
    rcases (show b = 0 ∨ b = 1 ∨ b = 2 ∨ b = 3 by omega) with q | q | q | q <;> subst q
    · rw [fi_neg (by decide), fi_pos (by decide), if_pos rfl]
    · rw [fi_neg (by decide), fi_neg (by decide), if_neg (by decide), if_pos rfl]
    · rw [fi_pos (by decide), if_neg (by decide), if_neg (by decide)]
    · rw [fi_pos (by decide), if_neg (by decide), if_neg (by decide)]
  have K52 : ∀ sg : Bool, sg = ngI b (ownI b v) → Cf c S 0 M (GX64_take_52 (c 0) (ownI b v) (bz (sg = true)) M) ∧ Ou c 0 md (GX64_take_52 (c 0) (ownI b v) (bz (sg = true)) M) (frI b v) := fun sg h => by
    unfold GX64_take_52 GX64_take_70
    dsimp only
    rw [fi_bz]
    by_cases q : sg = true
    · rw [fi_pos q]
      exact K sg _ h (by rw [if_pos (h ▸ q)]) _ rfl
    · rw [fi_neg q]
      exact K sg _ h (by rw [if_neg (h ▸ q)]) _ rfl
  rw [own]
  unfold GX64_take_31 GX64_take_51
  rw [w2, fi_bz]
  have e0 := K52 false
  have e1 := K52 true
  rw [bz_f (show ¬ false = true by decide)] at e0
  rw [bz_t rfl] at e1
  by_cases q : b % 2 = 0
  · rw [fi_pos q]
    by_cases q2 : 0 ≤ lg_cmp (ownI b v) (Int64.ofInt 0)
    · rw [fi_pos q2]
      exact e0 (by
        unfold ngI
        rw [decide_eq_true q, decide_eq_false (show ¬ lg_cmp (ownI b v) (Int64.ofInt 0) < 0 from Int32.not_lt.mpr q2)]
        rfl)
    · rw [fi_neg q2]
      exact e1 (by
        unfold ngI
        rw [decide_eq_true q, decide_eq_true (show lg_cmp (ownI b v) (Int64.ofInt 0) < 0 from Int32.not_le.mp q2)]
        rfl)
  · rw [fi_neg q]
    exact e0 (by
      unfold ngI
      rw [decide_eq_false q]
      rfl)
theorem c4' {n : Nat} (h : n < 32) : (nI n < Int32.ofNat 4) = (n < 4) := propext (by
  have := ni_lt (z := 4) (k := n) (by omega)
  rw [show Int32.ofNat 4 = Int32.ofInt 4 from rfl, this]
  omega)
/-- to integers -/
theorem X59_conv24 (o : FlU u c rg M) (v : VFc u c rg M s) (ht : t ≤ 1) (hm : md ≤ 4) (x : Int64) (hk : pt w 27 5 = 24) :
    ∃ N, (HX59_convert u w (c (10 + t)) (1 + md) x M ∧ GX59_convert u w (c (10 + t)) (1 + md) x M = ((if pt w 20 5 < 4 then Int32.ofInt 1 else Int32.ofInt (-1)), N)) ∧
      (if pt w 20 5 < 4 then GvC u c rg s (toI (pt w 20 5) md (rdU t (pt w 15 5) s)) M N else N = M) := by
  obtain ⟨e5, e6, e7, e8, e4⟩ := e105 o.1
  have hw := pt_lt w 20 5
  unfold HX59_convert HX59_convert_0 GX59_convert GX59_convert_0
  dsimp only
  rw [p20]
  dsimp only
  rw [p27, hk, p15]
  dsimp only
  rw [fi_neg (show ¬ nI 24 = Int32.ofInt 8 by decide), fi_pos (show nI 24 = Int32.ofInt 24 from rfl), o.2.2.2.2.2.1.1, c4' hw]
  by_cases q : pt w 20 5 < 4
  · rw [fi_pos q, if_pos q]
    have gX := rdU_g ht (pt w 15 5) s
    obtain ⟨th, tc, tv, tn, tb⟩ := X59_take (S := fun j => j = 0) o v ht (pt_lt w 15 5) (show 0 < 4 by decide) rfl
    have o1 := flU_c o tc
    have v1 := vFc_c o v tc
    rw [sFl_0] at v1
    rw [e5, o_cl (show pt w 20 5 < 2147483648 by omega)]
    generalize GX59_take u (nI (pt w 15 5)) (c (10 + t)) (c 0) M = M1 at *
    obtain ⟨e5, e6, e7, e8, e4⟩ := e105 o1.1
    obtain ⟨N, ⟨h, e⟩, cf⟩ := X64_round (S := fun _ => True) (X := rdU t (pt w 15 5) s) (md := md) o1 q hm tv tn gX trivial
    have o2 := flU_c o1 cf
    have v2 := vFc_c o1 v1 cf
    obtain ⟨K, ek, fk, vk⟩ := X59_give o2 v2 (toI (pt w 20 5) md (rdU t (pt w 15 5) s)).1
    obtain ⟨ln, en⟩ := o1.2.2.2.2.2.1
    rw [(en _ q).1, e5, e4, e]
    dsimp only
    rw [ek]
    refine ⟨K, ⟨⟨fun y => absurd y (by decide), fun _ => ⟨fun _ => ⟨fun _ => ⟨th, in_nI ln q (by decide), h, trivial⟩, fun y => absurd q y⟩, fun y => absurd rfl y⟩⟩, rfl⟩, ?_⟩
    rw [if_pos q]
    exact ⟨frU_t (frU_c tc.1) (frU_t (frU_c cf.1) fk), vk⟩
  · rw [fi_neg q, if_neg q]
    refine ⟨M, ⟨⟨fun y => absurd y (by decide), fun _ => ⟨fun _ => ⟨fun y => absurd y q, fun _ => trivial⟩, fun y => absurd rfl y⟩⟩, rfl⟩, ?_⟩
    rw [if_neg q]
/-- from integers -/
theorem X59_conv26 (o : FlU u c rg M) (v : VFc u c rg M s) (ht : t ≤ 1) (hm : md ≤ 4) (x : Int64) (hk : pt w 27 5 = 26) :
    ∃ N, (HX59_convert u w (c (10 + t)) (1 + md) x M ∧ GX59_convert u w (c (10 + t)) (1 + md) x M = ((if pt w 20 5 < 4 then Int32.ofInt 0 else Int32.ofInt (-1)), N)) ∧
      (if pt w 20 5 < 4 then WrC u c rg t w s (finF t md (frI (pt w 20 5) x)) M N else N = M) := by
  obtain ⟨e5, e6, e7, e8, e4⟩ := e105 o.1
  have hw := pt_lt w 20 5
  unfold HX59_convert HX59_convert_0 GX59_convert GX59_convert_0
  dsimp only
  rw [p20]
  dsimp only
  rw [p27, hk]
  dsimp only
  rw [fi_neg (show ¬ nI 26 = Int32.ofInt 8 by decide), fi_neg (show ¬ nI 26 = Int32.ofInt 24 by decide), fi_pos (show nI 26 = Int32.ofInt 26 from rfl), o.2.2.2.2.2.1.1, c4' hw]
  by_cases q : pt w 20 5 < 4
  · rw [fi_pos q, if_pos q]
    obtain ⟨ln, en⟩ := o.2.2.2.2.2.1
    rw [e5, o_cl (show pt w 20 5 < 2147483648 by omega), (en _ q).1]
    obtain ⟨cf, ou⟩ := X64_take (S := fun j => j = 0) (md := md) o q rfl x
    have o1 := flU_c o cf
    have v1 := vFc_c o v cf
    generalize GX64_take (11 + pt w 20 5) x (c 0) M = M1 at *
    obtain ⟨e5, e6, e7, e8, e4⟩ := e105 o1.1
    obtain ⟨P, N, ⟨h1, g1⟩, ⟨h2, g2⟩, fr, vN⟩ := X59_tail o1 v1 (by decide) ht hm (show 0 < 4 by decide) ou w
    rw [e5, e4, g1]
    dsimp only
    rw [g2]
    rw [Nat.zero_or] at vN
    refine ⟨N, ⟨⟨fun y => absurd y (by decide), fun _ => ⟨fun y => absurd y (by decide), fun _ => ⟨fun _ => ⟨fun _ => ⟨in_nI ln q (by decide), h1, h2, trivial⟩, fun y => absurd q y⟩, fun y => absurd rfl y⟩⟩⟩, rfl⟩, ?_⟩
    rw [if_pos q]
    exact ⟨frU_t (frU_c cf.1) fr, vN⟩
  · rw [fi_neg q, if_neg q]
    refine ⟨M, ⟨⟨fun y => absurd y (by decide), fun _ => ⟨fun y => absurd y (by decide), fun _ => ⟨fun _ => ⟨fun y => absurd y q, fun _ => trivial⟩, fun y => absurd rfl y⟩⟩⟩, rfl⟩, ?_⟩
    rw [if_neg q]
theorem X59_convx (v : Int64) (hk : pt w 27 5 ≠ 8 ∧ pt w 27 5 ≠ 24 ∧ pt w 27 5 ≠ 26) {f m : Nat} : HX59_convert u w f m v M ∧ GX59_convert u w f m v M = (Int32.ofInt (-1), M) := by
  have hw := pt_lt w 27 5
  have n8 : ¬ nI (pt w 27 5) = Int32.ofInt 8 := fun y => hk.1 ((ni_i (b := 8) (by omega) (by decide)).mp y)
  have n24 : ¬ nI (pt w 27 5) = Int32.ofInt 24 := fun y => hk.2.1 ((ni_i (b := 24) (by omega) (by decide)).mp y)
  have n26 : ¬ nI (pt w 27 5) = Int32.ofInt 26 := fun y => hk.2.2 ((ni_i (b := 26) (by omega) (by decide)).mp y)
  unfold HX59_convert HX59_convert_0 GX59_convert GX59_convert_0
  dsimp only
  rw [p20]
  dsimp only
  rw [p27]
  dsimp only
  rw [fi_neg n8, fi_neg n24, fi_neg n26]
  exact ⟨⟨fun y => absurd y n8, fun _ => ⟨fun y => absurd y n24, fun _ => ⟨fun y => absurd y n26, fun _ => trivial⟩⟩⟩, rfl⟩
end Ix
