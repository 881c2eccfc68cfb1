/-! control registers: lines, time, and small questions -/
set_option maxRecDepth 100000
section Sm
variable {u d n x : Nat} {k : Int32} {Mc Mt M Mc' Mt' : FM}
theorem relC_g (R : RelC u d k Mc Mt) (c2 : Mc'.2.2 = Mc.2.2) (t2 : Mt'.2.2 = Mt.2.2) (i37 : Mc'.1 37 = Mc.1 37) (i3 : Mc'.1 3 = Mc.1 3) (L : ∀ f, f ∈ [40, 42, 47, 48] → Mc'.2.1 f = Mc.2.1 f)
    (t359 : Mt'.1 359 = Mt.1 359) (t360 : Mt'.1 360 = Mt.1 360) (th : ∀ n, ht Mt' d n = ht Mt d n) (vv : ∀ q ∈ cH, Mc'.2.1 41 (tbl Mc u q.1) 0 = Mc.2.1 41 (tbl Mc u q.1) 0)
    (vl : VL u d Mc' Mt') (ck : Mc'.2.1 41 (Mc.2.2 36 u 0) 0 = Mt'.2.1 363 d 0) (Tc : Ty Mc') (Tt : Ty Mt') : RelC u d k Mc' Mt' := by
  obtain ⟨⟨-, a2, a3, a4⟩, ⟨-, b2, b3, b4⟩, v1, -, ⟨vm, hm⟩, -⟩ := R
  have et : ∀ n, tbl Mc' u n = tbl Mc u n := fun n => by unfold tbl; rw [c2]
  refine ⟨⟨Tc, ?_, stc_c c2 a3, ?_⟩, ⟨Tt, ?_, ⟨?_, fun n hn => (th n).trans (b3.2 n hn)⟩, vi_c th b4⟩, fun q hq => ?_, vl, ⟨?_, ?_⟩, ?_⟩
  · unfold fm_is at *
    rw [c2]
    exact a2
  · unfold MkC at *
    simp only [et, c2, i3, L 40 (by decide), L 42 (by decide), L 47 (by decide), L 48 (by decide)]
    exact a4
  · unfold fm_is at *
    rw [t2]
    exact b2
  · rw [t359]
    exact b3.1
  · rw [et, vv q hq, th]
    exact v1 q hq
  · rw [i37, t360]
    exact vm
  · rw [t360]
    exact hm
  · rw [c2]
    exact ck
/-- a line, on or off -/
theorem rel_line (R : RelC u d k Mc Mt) {l : Nat} (hl : l = 3 ∨ l = 7 ∨ l = 9 ∨ l = 11) {b : Int32} (hb : b = 0 ∨ b = 1) :
    HX100_line d (nI l) b Mt ∧ RelC u d k (GX74_line u (nI l) b Mc) (GX100_line d (nI l) b Mt) := by
  have R0 := R
  obtain ⟨⟨Tc, nu, S, K⟩, ⟨Tt, nd, Z, I⟩, v1, ⟨vl, vz⟩, vm, vc⟩ := R
  have e31 : Mc.2.2 31 u 0 = tbl Mc u 836 := S.2.2.1.2.2.2.2.1
  have hl12 : l < 12 := by omega
  have hmem : fe_mem lns l = true := by rcases hl with rfl | rfl | rfl | rfl <;> rfl
  have hin : fm_in (fm_sI Mt 358 d 0 (Int32.ofInt 0)) (Mt.2.2 362 d 0) (nI l) = true := in_nI (tL_362 Tt.1 nd) hl12 (by decide)
  have hb1 : b &&& 1 = b := by rcases hb with rfl | rfl <;> decide
  have et : GX100_line d (nI l) b Mt = fm_sI (fm_sI Mt 358 d 0 (Int32.ofInt 0)) 3 (Mt.2.2 362 d 0) l b := by
    have e29 : GX100_line_29 d (nI l) b d (Int32.ofInt 0) Mt = fm_sI (fm_sI Mt 358 d 0 (Int32.ofInt 0)) 3 (Mt.2.2 362 d 0) l b := by
      unfold GX100_line_29 GX100_line_46
      dsimp only
      rw [fi_pos (by rw [rI, if_pos ⟨rfl, rfl, rfl⟩]; rfl), nI_clamp (by omega), hb1]
      rfl
    unfold GX100_line GX100_line_0 GX100_line_24
    rw [e29]
    rcases hl with rfl | rfl | rfl | rfl
    · rw [fi_pos (by decide)]
    · rw [fi_neg (by decide), fi_pos (by decide)]
    · rw [fi_neg (by decide), fi_neg (by decide), fi_pos (by decide)]
    · rw [fi_neg (by decide), fi_neg (by decide), fi_neg (by decide), fi_pos (by decide)]
  have h24 : HX100_line_24 d (nI l) b d Mt := ⟨fun _ => ⟨hin, trivial⟩, fun _ => trivial⟩
  have hH : HX100_line d (nI l) b Mt := by
    refine ⟨fun _ => h24, fun q1 => ⟨fun _ => h24, fun q2 => ⟨fun _ => h24, fun q3 => ⟨fun _ => h24, fun q4 => ?_⟩⟩⟩⟩
    rcases hl with rfl | rfl | rfl | rfl
    · exact absurd rfl q1
    · exact absurd rfl q2
    · exact absurd rfl q3
    · exact absurd rfl q4
  obtain ⟨v, ec, hv⟩ : ∃ v, GX74_line u (nI l) b Mc = fm_sL Mc 43 (tbl Mc u 836) 0 v ∧ ∀ i, i < 64 → lb v i = if i = l then decide (b ≠ 0) else lb (Mc.2.1 43 (tbl Mc u 836) 0) i := by
    have e1 : ∀ i, i < 64 → lb ((Int64.ofInt 1) <<< ((nI l).toInt64 &&& 63)) i = decide (i = l) := fun i hi => by
      rw [lb_shl (k := l) _ _ (by rw [ui_nI]; omega), lb_one, decide_eq_true hi, Bool.true_and]
      by_cases h : i = l
      · rw [decide_eq_true h, decide_eq_true (show l ≤ i by omega), decide_eq_true (show i - l = 0 by omega)]
        rfl
      · rw [decide_eq_false h]
        by_cases z : l ≤ i
        · rw [decide_eq_false (show ¬ i - l = 0 by omega), Bool.and_false]
        · rw [decide_eq_false z, Bool.false_and]
    unfold GX74_line GX74_line_0 GX74_line_37
    dsimp only
    rw [e31]
    by_cases h : b = 0
    · rw [fi_pos h]
      refine ⟨_, rfl, fun i hi => ?_⟩
      rw [lb_and, lb_xor, e1 i hi, lb_m1 i hi]
      by_cases q : i = l
      · rw [if_pos q, decide_eq_true q, decide_eq_false (fun z => z h)]
        simp
      · rw [if_neg q, decide_eq_false q]
        simp
    · rw [fi_neg h]
      refine ⟨_, rfl, fun i hi => ?_⟩
      rw [lb_or, e1 i hi]
      by_cases q : i = l
      · rw [if_pos q, decide_eq_true q, decide_eq_true h, Bool.or_true]
      · rw [if_neg q, decide_eq_false q, Bool.or_false]
  refine ⟨hH, ?_⟩
  have Tt' := (gX100_line d (nI l) b Mt Tt nd hH).2.1
  rw [ec]
  rw [et] at Tt' ⊢
  have hr : ∀ i, (fm_sI (fm_sI Mt 358 d 0 (Int32.ofInt 0)) 3 (Mt.2.2 362 d 0) l b).1 3 (Mt.2.2 362 d 0) i = if i = l then b else Mt.1 3 (Mt.2.2 362 d 0) i := fun i => by
    rw [rI]
    by_cases q : i = l
    · rw [if_pos ⟨rfl, rfl, q⟩, if_pos q]
    · rw [if_neg (fun z => q z.2.2), if_neg q, rIf (by decide)]
  refine relC_g R0 rfl rfl rfl rfl (fun f hf => funext fun b => funext fun i => rLf (by rintro rfl; revert hf; decide)) (funext fun b => funext fun i => (rIf (by decide)).trans (rIf (by decide))) (funext fun b => funext fun i => (rIf (by decide)).trans (rIf (by decide))) (fun n => rfl) (fun q hq => rLf (by decide)) ⟨fun i hi => ?_, fun i hi hm => ?_⟩ ((rLf (by decide)).trans vc) ⟨Tc.1, Tc.2⟩ Tt'
  · show lb ((fm_sL Mc 43 (tbl Mc u 836) 0 v).2.1 43 (tbl Mc u 836) 0) i = (fe_mem lns i && decide ((fm_sI (fm_sI Mt 358 d 0 (Int32.ofInt 0)) 3 (Mt.2.2 362 d 0) l b).1 3 (Mt.2.2 362 d 0) i ≠ 0))
    rw [sL_at, hv i hi, hr i]
    by_cases q : i = l
    · rw [if_pos q, if_pos q, q, hmem, Bool.true_and]
    · rw [if_neg q, if_neg q]
      exact vl i hi
  · show (fm_sI (fm_sI Mt 358 d 0 (Int32.ofInt 0)) 3 (Mt.2.2 362 d 0) l b).1 3 (Mt.2.2 362 d 0) i = 0
    rw [hr i, if_neg (fun q => by rw [q, hmem] at hm; cases hm)]
    exact vz i hi hm
theorem rel_time (R : RelC u d k Mc Mt) (t : Int64) : RelC u d k (fm_sL Mc 41 (Mc.2.2 36 u 0) 0 t) (GX100_time d t Mt) := by
  have R0 := R
  obtain ⟨⟨Tc, nu, S, K⟩, ⟨Tt, nd, Z, I⟩, v1, vl, vm, vc⟩ := R
  have hne : ∀ q ∈ cH, tbl Mc u q.1 ≠ Mc.2.2 36 u 0 := S.2.2.2.2.2.1.2
  have Tt' := (gX100_time d t Mt Tt nd).2.1
  rw [show GX100_time d t Mt = fm_sL (fm_sI Mt 358 d 0 (Int32.ofInt 0)) 363 d 0 t from rfl] at Tt' ⊢
  refine relC_g R0 rfl rfl rfl rfl (fun f hf => funext fun b => funext fun i => rLf (by rintro rfl; revert hf; decide)) (funext fun b => funext fun i => show (fm_sI Mt 358 d 0 (Int32.ofInt 0)).1 359 b i = _ from rIf (by decide)) (funext fun b => funext fun i => show (fm_sI Mt 358 d 0 (Int32.ofInt 0)).1 360 b i = _ from rIf (by decide)) (fun n => rLf (by decide)) (fun q hq => ?_) ?_ ?_ ⟨Tc.1, Tc.2⟩ Tt'
  · rw [rL, if_neg (fun z => hne q hq z.2.1)]
  · exact ⟨fun i hi => (congrArg (fun y => lb y i) (rLf (by decide))).trans (vl.1 i hi), vl.2⟩
  · rw [sL_at]
    exact (sL_at _ _ _ _ _).symm
/-- whether anything waits -/
theorem rel_wakes (R : RelC u d k Mc Mt) : HX100_wakes d Mt ∧ ∃ W, GX74_waiting u Mc = (W, Mc) ∧ GX100_wakes d Mt = (bz (¬ lg_cmp W (Int64.ofInt 0) = 0), fm_sI Mt 358 d 0 (Int32.ofInt 0)) := by
  have R1 := rel_t358 R (Int32.ofInt 0)
  have hl := (rel_lineBits R1).2
  refine ⟨⟨t_shownH (n := 836) (by decide) R1.2.1.1 R1.2.1.2.1, trivial⟩, _, c_waiting R, ?_⟩
  unfold GX100_wakes GX100_wakes_0 GX100_wakes_31
  dsimp only
  rw [show GX100_shown d (Int32.ofInt 836) (fm_sI Mt 358 d 0 (Int32.ofInt 0)) = _ from (t_shown _ (nI 836)).trans (t836 hl)]
  dsimp only
  rw [fi_not]
  exact fi_pr
theorem rel_mode (R : RelC u d k Mc Mt) : GX100_mode d Mt = (Mc.1 37 u 0, fm_sI Mt 358 d 0 (Int32.ofInt 0)) := by
  rw [R.2.2.2.2.1.1]
  rfl
end Sm
