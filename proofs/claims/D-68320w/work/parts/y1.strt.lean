/-! start: the tree is described and laid into memory, both sides -/
set_option maxRecDepth 100000
theorem rwB_k {row c : Nat} {M N : FM} {Y : List Nat} {S : List Nat} (k : WK S M N) (hd : dj [261, 262, 1261] S = true) (T : Ty M) (W : Wf M) (V : RwB row c M Y) : RwB row c N Y := by
  obtain ⟨n, l, v, w, z⟩ := V
  have lr := wf_lt W (fm_ist rfl n)
  have n261 := tN_261 T.1 n
  have e261 := congrFun (kf (f := 261) k rfl (dj_n hd 261 rfl) lr).2.2 0
  have e262 := congrFun (kf (f := 262) k rfl (dj_n hd 262 rfl) lr).1 0
  have r261 := (ka k (sS_261 W n) (wf_n0 W (fm_ist rfl n261)) (dj_n hd 1261 rfl) (wf_lt W (fm_ist rfl n261))).1
  have l261 := (ktt k W (fm_ist rfl n261)).2
  refine ⟨kis k W rfl n, ?_, e262.trans v, fun j hj => ?_, z⟩
  · rw [e261, l261]; exact l
  · rw [e261, r261]; exact w j hj
theorem treB_l {p : Nat} (h1 : 1 ≤ p) (h2 : p ≤ 4) : (treB p).length ≤ 8192 := p_14 (P := fun p => (treB p).length ≤ 8192) h1 h2 (by decide +kernel) (by decide +kernel) (by decide +kernel) (by decide +kernel)
/-- where the machine finds the memory and the tree's bytes -/
def PmD (mc bd d r row : Nat) (M : FM) : Prop := fm_is M 67 67 mc = true ∧ fm_is M 11 11 bd = true ∧ (M.2.2 189 mc 0 = bd ∧ M.2.2 18 bd 0 = r) ∧ (M.2.2 193 mc 0 = d ∧ fm_is M 21 21 d = true ∧ M.2.2 256 (M.2.2 57 d 0) 0 = row)
section Ds2
variable {bd hv m hq s dd x dk q rq r sg bl cr np mc : Nat} {B Bk Vv ld d row : Nat} {Mc Mt M N : FM} {S : List Nat} {e : Int64}
theorem pmD_k (k : WK S M N) (hd : dj [18, 57, 189, 193, 256] S = true) (T : Ty M) (W : Wf M) (h : PmD mc bd d r row M) : PmD mc bd d r row N := by
  obtain ⟨h1, h2, ⟨h3, h4⟩, h5, h6, h7⟩ := h
  have l1 := wf_lt W (fm_ist rfl h1)
  have l2 := wf_lt W (fm_ist rfl h2)
  have l3 := wf_lt W (fm_ist rfl h6)
  have l4 := wf_lt W (fm_ist rfl (tN_57 T.1 h6))
  refine ⟨kis k W rfl h1, kis k W rfl h2, ⟨(congrFun (kf (f := 189) k rfl (dj_n hd 189 rfl) l1).2.2 0).trans h3, (congrFun (kf (f := 18) k rfl (dj_n hd 18 rfl) l2).2.2 0).trans h4⟩, (congrFun (kf (f := 193) k rfl (dj_n hd 193 rfl) l1).2.2 0).trans h5, kis k W rfl h6, ?_⟩
  rw [congrFun (kf (f := 57) k rfl (dj_n hd 57 rfl) l3).2.2 0, congrFun (kf (f := 256) k rfl (dj_n hd 256 rfl) l4).2.2 0]
  exact h7
theorem db_d {T : Ty M} (nd : fm_is M 21 21 d = true) : ¬ DBad d M d := fun ⟨_, _, h⟩ => by
  have t : M.2.2 0 d 0 = 21 := by have := fm_isd nd; omega
  rcases h with z | z | z | z | z | z | z | z
  all_goals first | omega | exact z.2 rfl
theorem M_desc (R : RelM bd hv m hq s dd x dk q rq r sg bl cr np mc B Bk Vv Mc Mt) (Q : RelR mc m B Mc Mt) (L : RelL mc ld m r cr Mc Mt) (Sd : RelS mc m np Mc Mt) :
    ∃ N1, (HX4_describe (Mc.2.2 193 mc 0) (nI np) Mc ∧ GX4_describe (Mc.2.2 193 mc 0) (nI np) Mc = (nI (treB np).length, N1)) ∧ RelM bd hv m hq s dd x dk q rq r sg bl cr np mc B Bk Vv N1 Mt ∧ RelR mc m B N1 Mt ∧ RelL mc ld m r cr N1 Mt ∧ RelS mc m np N1 Mt ∧
      PmD mc bd (Mc.2.2 193 mc 0) r (N1.2.2 256 (N1.2.2 57 (Mc.2.2 193 mc 0) 0) 0) N1 ∧ RwB (N1.2.2 256 (N1.2.2 57 (Mc.2.2 193 mc 0) 0) 0) 65536 N1 (treB np) ∧ WK lX4_describe Mc N1 := by
  have RR := relM_ram R
  have RB := relM_b R
  have T0 := RR.1.1
  have W := RR.1.2.1
  have Tm := RR.2.1.1
  have W' := RR.2.1.2.1
  obtain ⟨n92, np4⟩ := relM_m R
  have n67 := R.1
  have np1 := R.2.2.2.1
  obtain ⟨A, D, P, o_, t⟩ := id Sd
  have nd : fm_is Mc 21 21 (Mc.2.2 193 mc 0) = true := D.1
  obtain ⟨a1, N1, a2, a3, ⟨TN, DN, RwN, oN⟩⟩ := X4_describe np1 np4 T0 A D o_
  have g1 := gX4_describe (Mc.2.2 193 mc 0) (nI np) Mc a1
  rw [a2] at g1
  have kc : WK lX4_describe Mc N1 := wX4_describe (SL lX4_describe) (fun _ => True) (fun _ h => h) fN (Mc.2.2 193 mc 0) (nI np) Mc (wi_N W) trivial _ g1.1
  have kz : Wk (SL lX4_describe) (fun a => ¬ DBad (Mc.2.2 193 mc 0) Mc a) 0 (fm_nx Mc) Mc N1 := wX4_describe (SL lX4_describe) (fun a => ¬ DBad (Mc.2.2 193 mc 0) Mc a) (fun _ h => h) fN (Mc.2.2 193 mc 0) (nI np) Mc (db_wi T0 W nd) (db_d (T := T0) nd) _ g1.1
  obtain ⟨_, _, _, _, _, ⟨ow, Ow⟩, ⟨ow', Ow'⟩, _⟩ := id R
  have kc' : Wk (SL lX4_describe) (Zo ow (fm_nx Mc) 0) 0 (fm_nx Mc) Mc N1 := wX4_describe (SL lX4_describe) (Zo ow (fm_nx Mc) 0) (fun _ h => h) fN (Mc.2.2 193 mc 0) (nI np) Mc (own_wi Ow T0 W) (Or.inr (Or.inl (own_sh Ow nd rfl))) _ g1.1
  have OX := own_k Ow T0 W kc' (xs_dj (by decide))
  have R1 := (M_k R kc (WK_r (S := []) W') (by decide) (by decide) TN Tm ⟨_, OX⟩ ⟨_, Ow'⟩).1
  have Q1 := relR_k (B' := B) kc (WK_r (S := []) W') (by decide) (by decide) T0 W Tm W' n67 n92 (Nat.le_refl _) Q
  have lc := wf_lt W (fm_ist rfl n67)
  have e193 : N1.2.2 193 mc 0 = Mc.2.2 193 mc 0 := congrFun (kf (f := 193) kc rfl (dj_n (L := [193]) (by decide) 193 rfl) lc).2.2 0
  have e191 : N1.2.2 191 mc 0 = Mc.2.2 191 mc 0 := congrFun (kf (f := 191) kc rfl (dj_n (L := [191]) (by decide) 191 rfl) lc).2.2 0
  have e192 : N1.2.2 192 mc 0 = Mc.2.2 192 mc 0 := congrFun (kf (f := 192) kc rfl (dj_n (L := [192]) (by decide) 192 rfl) lc).2.2 0
  have L1 : RelL mc ld m r cr N1 Mt := by
    obtain ⟨l1, l2, ⟨X, n, ⟨_, ⟨u1, u2, u3, u4, u5⟩, v2, v3, v4⟩⟩, l5, l6⟩ := L
    have ll := wf_lt W (fm_ist rfl u2)
    have n73 := tN_187 T0.1 u2
    have f186 : N1.2.2 186 ld 0 = Mc.2.2 186 ld 0 := congrFun (kf (f := 186) kc rfl (dj_n (L := [186]) (by decide) 186 rfl) ll).2.2 0
    have f187 : N1.2.2 187 ld 0 = Mc.2.2 187 ld 0 := congrFun (kf (f := 187) kc rfl (dj_n (L := [187]) (by decide) 187 rfl) ll).2.2 0
    have f188 : N1.2.1 188 ld 0 = Mc.2.1 188 ld 0 := congrFun (kf (f := 188) kc rfl (dj_n (L := [188]) (by decide) 188 rfl) ll).2.1 0
    have f202 : N1.1 202 (Mc.2.2 187 ld 0) 0 = Mc.1 202 (Mc.2.2 187 ld 0) 0 := congrFun (kf (f := 202) kc rfl (dj_n (L := [202]) (by decide) 202 rfl) (wf_lt W (fm_ist rfl n73))).1 0
    refine ⟨e192.trans l1, by rw [e191, f186]; exact l2, ⟨X, n, relM_ram R1, ⟨TN, kis kc W rfl u2, ?_, u4, by rw [f187, f202]; exact u5⟩, f187.trans v2, v3, v4⟩, by rw [f188]; exact ⟨l5, l6⟩⟩
    rw [f186]
    rw [l2] at P
    exact db_tape kz T0 W P (tN_186 T0.1 u2) u3
  refine ⟨N1, ⟨a1, a2⟩, R1, Q1, L1, ⟨alW_k kc (by decide) T0 W A, by rw [e193]; exact DN, ?_, by rw [e193]; exact oN, t⟩, ⟨kis kc W rfl n67, (relM_b R1).1.1.1.1, ⟨R1.2.1, (relM_b R1).1.1.2.2.1⟩, e193, DN.1, rfl⟩, RwN, kc⟩
  rw [e193, e191]
  exact tpD_k kc (by decide) T0 W D (tN_191 T0.1 n67) P
/-- the bytes are laid, one by one -/
theorem stp_L {Y : List Nat} {n : Nat} {Z : Nat → Prop} {hx N0 : Nat} {M0 : FM} (hN0 : N0 ≤ fm_nx M0) (zr_ : Z r) (hn : Y.length = n) (hn8 : n ≤ 8192) : ∀ (i c : Nat) (Mc : FM) (j' : Nat), c + i = n → RelRam r cr Mc (puN cr adT ofT (fun k => nI (Y.getD k 0)) c Mt) → PmD mc bd d r row Mc → RwB row 65536 Mc Y → Wk (SL lX11_store) Z hx N0 M0 Mc →
    ∃ Nc, (FX2_start_L fN (i + j')).1 mc (nI n) (nI c) Mc = (FX2_start_L fN j').1 mc (nI n) (nI n) Nc ∧ RelRam r cr Nc (puN cr adT ofT (fun k => nI (Y.getD k 0)) n Mt) ∧ PmD mc bd d r row Nc ∧ Evo r i Mc Nc ∧ WK lX11_store Mc Nc ∧
      WK lX93_put (puN cr adT ofT (fun k => nI (Y.getD k 0)) c Mt) (puN cr adT ofT (fun k => nI (Y.getD k 0)) n Mt) ∧ Wk (SL lX11_store) Z hx N0 M0 Nc
  | 0, c, Mc, j', hc, RR, P, Rw, kw => by
    have ec : c = n := by omega
    subst ec
    rw [Nat.zero_add]
    exact ⟨Mc, rfl, RR, P, evo_r r 0 Mc, WK_r RR.1.2.1, WK_r RR.2.1.2.1, kw⟩
  | i + 1, c, Mc, j', hc, RR, P, Rw, kw => by
    have hle : ¬ nI n ≤ nI c := fun z => by have := (n_le (by omega) (by omega)).mp z; omega
    have hcl : (nI c).toNatClampNeg = c := o_cl (by omega)
    have e64 : (nI c).toInt64 = lN c := o_64 (by omega)
    have T0 := RR.1.1
    have W := RR.1.2.1
    obtain ⟨nr, lr, vr, wr_, zr⟩ := id Rw
    have hx : Y.getD c 0 < 256 := by
      have hcY : c < Y.length := by omega
      rw [List.getD_eq_getElem?_getD, List.getElem?_eq_getElem hcY]
      exact zr _ (List.getElem_mem hcY)
    obtain ⟨p1, p2⟩ := ad_of (i := c) (by omega)
    have hin : inR (adT c) 1 := by unfold inR; unfold ofT at p1 p2; omega
    obtain ⟨s1, s2, s3, s4⟩ := rel_put RR hin (v := (nI (Y.getD c 0)).toInt64) (u := nI (Y.getD c 0)) (by_l hx)
    have eput : GX93_put cr (adT c) (nI (Y.getD c 0)) (puN cr adT ofT (fun k => nI (Y.getD k 0)) c Mt) = puN cr adT ofT (fun k => nI (Y.getD k 0)) (c + 1) Mt := (X93_put RR.2.1.1 RR.2.1.2.2.1 p1 p2 (nI (Y.getD c 0))).2
    have gput := gX93_put cr (adT c) (nI (Y.getD c 0)) _ s2
    have kp : WK lX93_put (puN cr adT ofT (fun k => nI (Y.getD k 0)) c Mt) (GX93_put cr (adT c) (nI (Y.getD c 0)) (puN cr adT ofT (fun k => nI (Y.getD k 0)) c Mt)) := wX93_put (SL lX93_put) (fun _ => True) (fun _ h => h) fN cr _ _ _ (wi_N RR.2.1.2.1) trivial _ gput.1
    rw [eput] at s3 kp
    have E1 : Evo r 1 Mc (GX11_store r (adT c) (Int32.ofInt 1) (nI (Y.getD c 0)).toInt64 Mc) := evo_st (by decide) (by decide) (by omega) s4
    have gs := gX11_store r (adT c) (Int32.ofInt 1) (nI (Y.getD c 0)).toInt64 Mc T0 RR.1.2.2.1 s1
    have ks : WK lX11_store Mc (GX11_store r (adT c) (Int32.ofInt 1) (nI (Y.getD c 0)).toInt64 Mc) := wX11_store (SL lX11_store) (fun _ => True) (fun _ h => h) fN r _ _ _ Mc (wi_N W) trivial _ gs.1
    have P2 := pmD_k ks (by decide) T0 W P
    have Rw2 := rwB_k ks (by decide) T0 W Rw
    have kw2 := wk_t kw (wX11_store (SL lX11_store) Z (fun _ h => h) fN r _ _ _ Mc kw.1 zr_ _ gs.1) hN0
    obtain ⟨Nc, c1, c2, c3, c4, c5, c6, c7⟩ := stp_L hN0 zr_ hn hn8 i (c + 1) _ j' (by omega) s3 P2 Rw2 kw2
    have ev := evo_t E1 c4
    rw [Nat.add_comm 1 i] at ev
    refine ⟨Nc, ?_, c2, c3, ev, WK_t ks c5, WK_t kp c6, c7⟩
    have gt : GX3_get row (nI c) Mc = (nI (Y.getD c 0), Mc) := by
      unfold GX3_get GX3_get_0
      try dsimp only
      rw [hcl, wr_ c (by omega), sb8_and hx]
    have ht : HX3_get row (nI c) Mc := ⟨in_nI lr (by omega) (by decide), trivial⟩
    obtain ⟨h1, h2, ⟨h3, h4⟩, h5, h6, h7⟩ := P
    have H : HX2_start_15 mc (nI n) (nI c) Mc := by
      refine ⟨fun z => absurd z hle, fun _ => ?_⟩
      try dsimp only
      rw [h3, h5, h7, h4, gt, e64]
      exact ⟨ht, s1, trivial⟩
    rw [show i + 1 + j' = (i + j') + 1 by omega]
    show FX2_start_15 fN (FX2_start_L fN (i + j')).1 (FX2_start_L fN (i + j')).2 mc (nI n) (nI c) Mc = _
    rw [(gX2_start_15 _ _ mc (nI n) (nI c) Mc T0 h1 H).1]
    unfold GX2_start_15
    rw [fi_neg hle]
    try dsimp only
    rw [h3, h5, h7, h4, gt, e64, nI_s (by omega)]
    exact c1
end Ds2
