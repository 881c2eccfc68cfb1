/-! a processor against the twin's: exceptions -/
set_option maxRecDepth 100000
section Pr
variable {p h bd a fu u t hv kp fd m c1 d1 f : Nat} {kn : Int32} {S S' : List Nat} {M N Mc Nc Mt Nt : FM} {o : Option Wt} {lo hi : Nat}
theorem fe_1 : fe_mem [f] f = true := fe_mem_of List.mem_cons_self
theorem WK_I (W : Wf M) (n : fm_is M lo hi a = true) (hlo : Nat.ble 1 lo = true) (hf : Nat.ble 4 f = true) (v : Int32) : WK [f] M (fm_sI M f a 0 v) := wk_I (wk_r (wi_N W)) hlo n trivial (lcf hf fe_1) (Nat.le_refl _)
theorem WK_L (W : Wf M) (n : fm_is M lo hi a = true) (hlo : Nat.ble 1 lo = true) (hf : Nat.ble 4 f = true) (v : Int64) : WK [f] M (fm_sL M f a 0 v) := wk_L (wk_r (wi_N W)) hlo n trivial (lcf hf fe_1) (Nat.le_refl _)
theorem evT_k (k : WK S M N) (hd : dj lIt S = true) (T : Ty M) (W : Wf M) (n : fm_is M 94 94 c1 = true) (E : EvT c1 M) : EvT c1 N := by
  have lc := wf_lt W (fm_ist rfl n)
  have n346 := tN_346 T.1 n
  have r346 := (ka k (sS_346 W n) (wf_n0 W (fm_ist rfl n346)) (dj_n hd 1346 rfl) (wf_lt W (fm_ist rfl n346))).2.1
  unfold EvT
  rw [(kf (f := 346) k rfl (dj_n hd 346 rfl) lc).2.2, (kf (f := 347) k rfl (dj_n hd 347 rfl) lc).2.1, r346]
  exact E
/-- an exception: the component's at once, the twin's at the end of its step -/
theorem p_raise (SP : StPr p h bd a fu u t hv kp fd Mc) (RI : RelI a c1 Mc Mt o) (RC : RelC u d1 kn Mc Mt) (Ev : EvT c1 Mt) (W : Wf Mc) (W' : Wf Mt) {c : Int32} {kc : Nat} (hc : ui c = kc) (hk : kc < 64) (v : Int64)
    (h320 : Mt.1 320 m 0 = c) (h321 : Mt.2.1 321 m 0 = v) :
    ∃ Nc Nt, GX46_raise p c v Mc = (Int32.ofInt 0, Nc) ∧ (HX92_step_96 m c1 d1 Mt ∧ GX92_step_96 m c1 d1 Mt = Nt) ∧ RelI a c1 Nc Nt none ∧ RelC u d1 kn Nc Nt ∧ EvT c1 Nt ∧
      WK lX46_raise Mc Nc ∧ WK [345, 347, 353, 358, 360, 365, 1361] Mt Nt := by
  obtain ⟨n, v0, v1, v2, v3, v4, v5, v6, v7, v8⟩ := SP
  have T := RC.1.1
  have T' := RC.2.1.1
  have nu := RC.1.2.1
  have nd := RC.2.1.2.1
  have nc := RI.2.1
  have na := RI.1.1
  have hp := RI.2.2.2.1
  -- the twin reads its counter
  have k1 : WK [345] Mt (fm_sI Mt 345 c1 0 (Int32.ofInt 0)) := WK_I W' nc rfl rfl _
  have T1 : Ty (fm_sI Mt 345 c1 0 (Int32.ofInt 0)) := ⟨T'.1, tyb_sI rfl T'.2⟩
  have RC1 := wrCt (WK_r (S := []) W) k1 (by decide) (by decide) W W' T T1 RC
  have RI1 := wrI (WK_r (S := []) W) k1 (by decide) (by decide) T W T' W' RI
  have E1 := evT_k k1 (by decide) T' W' nc Ev
  have W1 := k1.1.1
  obtain ⟨t1, t2, RC2⟩ := rel_trap RC1 (Int32.ofInt 0) c hc hk v (Mt.2.1 347 c1 0)
  have gx := gX74_trap u (Int32.ofInt 0) c v (Mt.2.1 347 c1 0) Mc T nu
  have gy := gX100_trap d1 (Int32.ofInt 0) c v (Mt.2.1 347 c1 0) (fm_sI Mt 345 c1 0 (Int32.ofInt 0)) T1 nd t1
  have kx : WK lX74_trap Mc (GX74_trap u (Int32.ofInt 0) c v (Mt.2.1 347 c1 0) Mc).2 := wX74_trap (SL lX74_trap) (fun _ => True) (fun _ h => h) _ _ _ _ _ Mc (wi_N W) trivial _ gx.1
  have ky : WK lX100_trap (fm_sI Mt 345 c1 0 (Int32.ofInt 0)) (GX100_trap d1 (Int32.ofInt 0) c v (Mt.2.1 347 c1 0) (fm_sI Mt 345 c1 0 (Int32.ofInt 0))).2 := wX100_trap (SL lX100_trap) (fun _ => True) (fun _ h => h) _ _ _ _ _ (fm_sI Mt 345 c1 0 (Int32.ofInt 0)) (wi_N W1) trivial _ gy.1
  have RI2 := wrI kx ky (by decide) (by decide) T W T1 W1 RI1
  have E2 := evT_k ky (by decide) T1 W1 nc E1
  have TX : Ty (GX74_trap u (Int32.ofInt 0) c v (Mt.2.1 347 c1 0) Mc).2 := gx.2.1
  have TY : Ty (GX100_trap d1 (Int32.ofInt 0) c v (Mt.2.1 347 c1 0) (fm_sI Mt 345 c1 0 (Int32.ofInt 0))).2 := gy.2.1
  have eU : GX46_raise p c v Mc = (Int32.ofInt 0, GX47_jump a (GX74_trap u (Int32.ofInt 0) c v (Mt.2.1 347 c1 0) Mc).1 (GX74_trap u (Int32.ofInt 0) c v (Mt.2.1 347 c1 0) Mc).2) := by
    unfold GX46_raise GX46_raise_0 GX46_counter GX46_counter_0
    dsimp only
    rw [v2, v4, hp]
  have eT : GX92_step_96 m c1 d1 Mt = GX98_jump c1 (GX100_trap d1 (Int32.ofInt 0) c v (Mt.2.1 347 c1 0) (fm_sI Mt 345 c1 0 (Int32.ofInt 0))).1 (GX100_trap d1 (Int32.ofInt 0) c v (Mt.2.1 347 c1 0) (fm_sI Mt 345 c1 0 (Int32.ofInt 0))).2 := by
    unfold GX92_step_96 GX92_step_117 GX98_counter GX98_counter_0
    dsimp only
    rw [h320, h321]
    rfl
  have hT : HX92_step_96 m c1 d1 Mt := by
    unfold HX92_step_96 GX98_counter GX98_counter_0
    dsimp only
    rw [h320, h321]
    exact ⟨t1, trivial⟩
  rw [← t2] at eT
  have WX := kx.1.1
  have WY := ky.1.1
  have naX := kis kx W rfl na
  have ncY := kis ky W1 rfl nc
  generalize (GX74_trap u (Int32.ofInt 0) c v (Mt.2.1 347 c1 0) Mc).1 = pc at *
  generalize (GX74_trap u (Int32.ofInt 0) c v (Mt.2.1 347 c1 0) Mc).2 = X at *
  generalize (GX100_trap d1 (Int32.ofInt 0) c v (Mt.2.1 347 c1 0) (fm_sI Mt 345 c1 0 (Int32.ofInt 0))).2 = Y at *
  have gj := gX47_jump a pc X TX naX
  have gk := gX98_jump c1 pc Y TY ncY
  have kj : WK lX47_jump X (GX47_jump a pc X) := wX47_jump (SL lX47_jump) (fun _ => True) (fun _ h => h) a pc X (wi_N WX) trivial _ gj.1
  have kk : WK lX98_jump Y (GX98_jump c1 pc Y) := wX98_jump (SL lX98_jump) (fun _ => True) (fun _ h => h) c1 pc Y (wi_N WY) trivial _ gk.1
  have RI3 := rel_ijump TX RI2 pc
  have RC3 := wrCt kj kk (by decide) (by decide) WX WY gj.2.1 gk.2.1 RC2
  exact ⟨_, _, eU, ⟨hT, eT⟩, RI3, RC3, ev_jump pc E2, WK_t (WK_s (by decide) kx) (WK_s (by decide) kj), WK_t (WK_s (by decide) k1) (WK_t (WK_s (by decide) ky) (WK_s (by decide) kk))⟩
end Pr
