/-! the component: an integer instruction as a whole -/
set_option maxRecDepth 100000
noncomputable def rgI (a : Nat) (M : FM) : Nat := M.2.2 178 (M.2.2 171 a 0) 0
noncomputable def cxI (a : Nat) (M : FM) (w len : Int32) : CR := cx (M.2.1 3 (rgI a M)) (M.2.1 179 (M.2.2 171 a 0) 0) w len
/-- the unit's memory behind an instruction -/
def RvI (a : Nat) (len : Int32) (M X : FM) (res : CR) : Prop :=
  (X.2.2 171 a 0 = M.2.2 171 a 0 ∧ X.2.2 172 a 0 = M.2.2 172 a 0 ∧ X.2.2 175 a 0 = M.2.2 175 a 0 ∧ X.2.2 178 (M.2.2 171 a 0) 0 = rgI a M) ∧
  (∀ j, X.2.1 3 (rgI a M) j = if j = res.2.1 ∧ 0 < j then res.2.2.1 else M.2.1 3 (rgI a M) j) ∧ X.2.1 179 (M.2.2 171 a 0) 0 = res.2.2.2.1 ∧
  (res.2.2.2.2 = none → X.2.2 174 a 0 = 0) ∧
  (∀ q, res.2.2.2.2 = some q → fm_is X 61 61 (X.2.2 174 a 0) = true ∧ Uk (X.2.2 174 a 0) q X ∧ X.1 176 a 0 = len ∧ X.2.1 3 (M.2.2 175 a 0) 0 = q.2.1 ∧ X.2.1 3 (M.2.2 175 a 0) 1 = q.2.2.1 ∧ X.2.1 3 (M.2.2 175 a 0) 2 = q.2.2.2.1 ∧ X.2.1 3 (M.2.2 175 a 0) 3 = q.2.2.2.2.1 ∧ X.2.1 3 (M.2.2 175 a 0) 4 = q.2.2.2.2.2.toInt64)
section Ri
variable {a : Nat} {M : FM}
theorem X47_runF (T : Ty M) (W : Wf M) (n : fm_is M 63 63 a = true) (K : KpI a M) (DT : DecT (M.2.2 172 a 0) M) (O : Od M) (w len : Int32) :
    ∃ X, FX47_run fN a w len M = some ((cxI a M w len).1, X) ∧ Ty X ∧ Ext M X ∧ KpI a X ∧ DecT (M.2.2 172 a 0) X ∧ Od X ∧ RvI a len M X (cxI a M w len) := by
  obtain ⟨i, N, ⟨fH, fG⟩, ni, TN, EN, KN, DN, FN⟩ := find_any T W n K w
  have e0 : FX47_find a w M = some (i, N) := by
    obtain ⟨r0, e0, _⟩ := fH
    unfold GX47_find at fG
    rw [e0] at fG ⊢
    exact congrArg some fG
  have k := (wX47_find (fun x => fe_mem lX47_find x = true) (fun _ => True) (fun _ h => h) a w M (wi_N W) trivial _ e0).1
  have ha : M.2.2 0 a 0 = 63 := by have := fm_isd n; omega
  have la : a < fm_nx M := wf_lt W (by rw [ha]; decide)
  have nr := tN_171 T.1 n
  have nc := tN_172 T.1 n
  have nP := tN_173 T.1 n
  have nW := tN_175 T.1 n
  have nR := tN_178 T.1 nr
  generalize hr : M.2.2 171 a 0 = r at *
  generalize hc : M.2.2 172 a 0 = c at *
  have lr : r < fm_nx M := wf_lt W (fm_ist rfl nr)
  have lc : c < fm_nx M := wf_lt W (fm_ist rfl nc)
  have fr : ∀ b, M.2.2 0 b 0 ≠ 0 → M.2.2 0 b 0 ≠ 61 → b ≠ M.2.2 173 a 0 → ∀ f j, N.1 f b j = M.1 f b j ∧ N.2.1 f b j = M.2.1 f b j ∧ N.2.2 f b j = M.2.2 f b j := fun b h1 h2 h3 => FN b (wf_lt W h1) (wf_n0 W h1) h2 h3
  have tr : M.2.2 0 r 0 = 64 := by have := fm_isd nr; omega
  have tc : M.2.2 0 c 0 = 62 := by have := fm_isd nc; omega
  have fa := fr a (by rw [ha]; decide) (by rw [ha]; decide) (nis n nP (by decide))
  have ff := fr r (by rw [tr]; decide) (by rw [tr]; decide) (nis nr nP (by decide))
  have fc := fr c (by rw [tc]; decide) (by rw [tc]; decide) (nis nc nP (by decide))
  have tR := fm_isd nR
  have tW := fm_isd nW
  have fR := fr _ (by omega) (by omega) (nis nR nP (by decide))
  have e171 : N.2.2 171 a 0 = r := ((fa 171 0).2.2).trans hr
  have e178 : N.2.2 178 r 0 = M.2.2 178 r 0 := (ff 178 0).2.2
  have e175 : N.2.2 175 a 0 = M.2.2 175 a 0 := (fa 175 0).2.2
  have e172 : N.2.2 172 a 0 = c := ((fa 172 0).2.2).trans hc
  have hca : c ≠ a := nis nc n (by decide)
  have hia : i ≠ a := nis ni (show fm_is N 63 63 a = true by unfold fm_is at n ⊢; rw [(fa 0 0).2.2]; exact n) (by decide)
  have hra : r ≠ a := nis nr n (by decide)
  have tNi : N.2.2 0 i 0 = 61 := by have := fm_isd ni; omega
  have tNa : N.2.2 0 a 0 = 63 := ((fa 0 0).2.2).trans ha
  have DTN : DecT c N := decT_tr (fun b hb => by
    have q := fr b (by omega) (by omega) (fun e => by have := fm_isd nP; rw [← e] at this; omega)
    exact ⟨(q 147 0).1, (q 148 0).1, (q 0 0).2.2⟩) (fun f _ _ => (fc f 0).2.2) DT
  have ON : Od N := fun z h1 h2 => ((congrFun (kf k (f := 10) rfl (by decide) (by have := W.2.2.2; omega)).1 0)).trans (O z h1 h2)
  -- nothing is under way
  generalize hM2 : fm_sR N 174 a 0 0 = M2
  have r2 : Ro a N M2 := by
    rw [← hM2]
    exact ⟨fun _ _ _ _ => rfl, fun f b j h => by rw [rR, if_neg (fun q => h ⟨q.1, q.2.1⟩)], fun _ _ _ _ => rfl⟩
  have T2 : Ty M2 := by rw [← hM2]; exact uw_ty TN (fun z => absurd rfl z)
  have l2 : M2.2.1 = N.2.1 := by rw [← hM2]; rfl
  have nr2 : fm_is M2 64 64 r = true := by
    refine ro_is r2 ?_
    unfold fm_is at nr ⊢
    rw [(ff 0 0).2.2]
    exact nr
  have D2 := ro_dec r2 tNa hca tNi DN
  have DT2 := ro_dt r2 hca DTN
  have O2 := ro_od r2 ON
  have e178' : M2.2.2 178 r 0 = M.2.2 178 r 0 := (r2.2.1 178 r 0 (by omega)).trans e178
  have e171' : M2.2.2 171 a 0 = r := (r2.2.1 171 a 0 (by omega)).trans e171
  have S := st_step (r := r) len T2 nr2 DT2 O2 D2
  have ecx : cx (M2.2.1 3 (M2.2.2 178 r 0)) (M2.2.1 179 r 0) w len = cxI a M w len := by
    unfold cxI rgI
    rw [hr, l2, e178', (ff 179 0).2.1]
    rw [show N.2.1 3 (M.2.2 178 r 0) = M.2.1 3 (M.2.2 178 r 0) from funext fun j => (fR 3 j).2.1]
  have pcx : (cxI a M w len) = cx (M.2.1 3 (M.2.2 178 r 0)) (M.2.1 179 r 0) w len := by
    unfold cxI rgI
    rw [hr]
  rw [ecx] at S
  obtain ⟨⟨s1, s2⟩, s3⟩ := S
  have hH : HX47_run_0 a w len M := by
    refine ⟨fH, ?_⟩
    dsimp only
    rw [fG]
    dsimp only
    rw [hM2, e171']
    exact ⟨st_H len T2 nr2 DT2 D2, trivial⟩
  have eF : FX47_run fN a w len M = kX47_run (FX47_run_L45 fN fN) (fi ((drun (M2.2.2 149 i 0) r i len M2).1 ≤ Int32.ofInt 1)
      (fi ((drun (M2.2.2 149 i 0) r i len M2).1 < 0) (.inr ((drun (M2.2.2 149 i 0) r i len M2).1, (drun (M2.2.2 149 i 0) r i len M2).2))
        (.inr ((drun (M2.2.2 149 i 0) r i len M2).1, fm_sL (drun (M2.2.2 149 i 0) r i len M2).2 177 a 0 ((drun (M2.2.2 149 i 0) r i len M2).2.2.1 177 a 0 + Int64.ofInt 1))))
      (.inl (a, i, (drun (M2.2.2 149 i 0) r i len M2).1, Int32.ofInt 0, fm_sI (fm_sR (drun (M2.2.2 149 i 0) r i len M2).2 174 a 0 i) 176 a 0 len))) := by
    show FX47_run_0 fN (FX47_run_L45 fN fN) a w len M = _
    rw [(gX47_run_0 _ a w len M T n hH).1]
    unfold GX47_run_0
    rw [fG]
    dsimp only
    rw [hM2, e171']
    rfl
  generalize drun (M2.2.2 149 i 0) r i len M2 = dr at *
  obtain ⟨ans, M3⟩ := dr
  dsimp only at s1 s2 eF
  rw [s1] at eF
  have r3 : Ro a N M3 := ⟨fun f b j h => by rw [s2.1]; exact r2.1 f b j h, fun f b j h => by rw [s2.2.1]; exact r2.2.1 f b j h, fun f b j h => by
    rw [s2.2.2.1 f b j (fun _ e => ?_) (fun _ e => ?_)]
    · exact r2.2.2 f b j h
    · rw [e, e178', (fR 0 0).2.2] at h
      omega
    · rw [e, (ff 0 0).2.2] at h
      omega⟩
  have T3 : Ty M3 := ty_eq s2.1 s2.2.1 T2
  have key : ∀ X, Ro a N X → Ty X → RvI a len M X (cxI a M w len) → Ty X ∧ Ext M X ∧ KpI a X ∧ DecT c X ∧ Od X ∧ RvI a len M X (cxI a M w len) := fun X rX TX v =>
    ⟨TX, fun b hb => ⟨(rX.2.1 0 b 0 (by omega)).trans (EN b hb).1, (rX.2.1 1 b 0 (by omega)).trans (EN b hb).2⟩, ro_kp rX tNa (by rw [e172]; exact hca) KN, ro_dt rX hca DTN, ro_od rX ON, v⟩
  have regs : ∀ X : FM, X.2.2 171 a 0 = N.2.2 171 a 0 → X.2.2 172 a 0 = N.2.2 172 a 0 → X.2.2 175 a 0 = N.2.2 175 a 0 → X.2.2 178 r 0 = N.2.2 178 r 0 → (X.2.2 171 a 0 = M.2.2 171 a 0 ∧ X.2.2 172 a 0 = M.2.2 172 a 0 ∧ X.2.2 175 a 0 = M.2.2 175 a 0 ∧ X.2.2 178 (M.2.2 171 a 0) 0 = rgI a M) := fun X h1 h2 h3 h4 => by
    unfold rgI
    rw [hr, hc, h1, h2, h3, h4, e171, e172, e175, e178]
    exact ⟨rfl, rfl, rfl, rfl⟩
  have rg : rgI a M = M2.2.2 178 r 0 := by
    unfold rgI
    rw [hr, e178']
  have rj : ∀ j, M3.2.1 3 (rgI a M) j = if j = (cxI a M w len).2.1 ∧ 0 < j then (cxI a M w len).2.2.1 else M.2.1 3 (rgI a M) j := fun j => by
    rw [rg, s2.2.2.2.1 j, l2, e178', (fR 3 j).2.1]
  have hWs : Sf M (M.2.2 175 a 0) 175 := W.2.1.1 (63, 63, 175, 175) (by decide) a n
  have hRs : Sf M (M.2.2 178 r 0) 178 := W.2.1.1 (64, 64, 178, 178) (by decide) r nr
  have WR : M.2.2 175 a 0 ≠ M.2.2 178 r 0 := fun e => by
    rw [e] at hWs
    rcases hWs with z | z
    · have z0 := W.2.2.1
      rw [z] at tR
      omega
    · rcases hRs with y | y
      · have z0 := W.2.2.1
        rw [y] at tR
        omega
      · omega
  have u174 : M3.2.2 174 a 0 = 0 := by rw [s2.2.1, ← hM2]; simp [rR]
  cases hq : (cxI a M w len).2.2.2.2 with
  | none =>
    have kind := cx_none (R := M.2.1 3 (M.2.2 178 r 0)) (pc := M.2.1 179 r 0) (w := w) (len := len) (by rw [← pcx]; exact hq)
    rw [← pcx] at kind
    have le1 : (cxI a M w len).1 ≤ Int32.ofInt 1 := by rcases kind with h | h | h <;> rw [h] <;> decide
    rw [fi_pos le1] at eF
    by_cases h0 : (cxI a M w len).1 < 0
    · rw [fi_pos h0] at eF
      refine ⟨M3, eF, key M3 r3 T3 ⟨regs M3 (by rw [s2.2.1]; exact e171'.trans e171.symm) (by rw [s2.2.1]; exact r2.2.1 172 a 0 (by omega)) (by rw [s2.2.1]; exact r2.2.1 175 a 0 (by omega)) (by rw [s2.2.1]; exact r2.2.1 178 r 0 (by omega)), rj, by rw [hr]; exact s2.2.2.2.2, fun _ => u174, fun q e => by rw [hq] at e; cases e⟩⟩
    · rw [fi_neg h0] at eF
      have r4 : Ro a N (fm_sL M3 177 a 0 (M3.2.1 177 a 0 + Int64.ofInt 1)) := ⟨r3.1, r3.2.1, fun f b j h => by
        rw [rL, if_neg (fun z => by rw [z.2.1, tNa] at h; cases h)]
        exact r3.2.2 f b j h⟩
      refine ⟨_, eF, key _ r4 ⟨T3.1, T3.2⟩ ⟨regs M3 (by rw [s2.2.1]; exact e171'.trans e171.symm) (by rw [s2.2.1]; exact r2.2.1 172 a 0 (by omega)) (by rw [s2.2.1]; exact r2.2.1 175 a 0 (by omega)) (by rw [s2.2.1]; exact r2.2.1 178 r 0 (by omega)), fun j => ?_, ?_, fun _ => u174, fun q e => by rw [hq] at e; cases e⟩⟩
      · rw [rL, if_neg (by omega)]
        exact rj j
      · rw [rL, if_neg (by omega), hr]
        exact s2.2.2.2.2
  | some q =>
    have U := st_U DT2 D2 (R := M.2.1 3 (M.2.2 178 r 0)) (pc := M.2.1 179 r 0) (len := len) (q := q) (by rw [← pcx]; exact hq)
    have ecw := cx_some (R := M.2.1 3 (M.2.2 178 r 0)) (pc := M.2.1 179 r 0) (w := w) (len := len) (q := q) (by rw [← pcx]; exact hq)
    rw [← pcx] at ecw
    have kq := Uk_k U
    have n1 : ¬ (cxI a M w len).1 ≤ Int32.ofInt 1 := by
      rw [ecw]
      show ¬ q.1 ≤ Int32.ofInt 1
      rcases kq with h | h | h | h | h <;> rw [h] <;> decide
    rw [fi_neg n1] at eF
    have s2' := s2
    rw [ecw, show M.2.1 179 r 0 = M2.2.1 179 r 0 by rw [l2, (ff 179 0).2.1]] at s2'
    obtain ⟨u1, u2, u3⟩ := Uv_eq s2'
    generalize hM7 : fm_sI (fm_sR M3 174 a 0 i) 176 a 0 len = M7 at eF
    have z22 : ∀ f b j, ¬ (f = 174 ∧ b = a) → M7.2.2 f b j = M2.2.2 f b j := fun f b j h => by
      rw [← hM7]
      show (fm_sR M3 174 a 0 i).2.2 f b j = _
      rw [rR, if_neg (fun z => h ⟨z.1, z.2.1⟩), u2]
    have z1 : ∀ f b j, ¬ (f = 176 ∧ b = a) → M7.1 f b j = M2.1 f b j := fun f b j h => by
      rw [← hM7, rI, if_neg (fun z => h ⟨z.1, z.2.1⟩)]
      show M3.1 f b j = _
      rw [u1]
    have z21 : ∀ f b j, ¬ (f = 179 ∧ b = r ∧ j ≠ 0) → M7.2.1 f b j = M2.2.1 f b j := fun f b j h => by
      rw [← hM7]
      exact u3 f b j h
    have z174 : M7.2.2 174 a 0 = i := by
      rw [← hM7]
      show (fm_sR M3 174 a 0 i).2.2 174 a 0 = i
      rw [rR, if_pos ⟨rfl, rfl, rfl⟩]
    have T7 : Ty M7 := by
      rw [← hM7]
      have t1 : Ty (fm_sR M3 174 a 0 i) := uw_ty T3 (fun _ => by unfold fm_is at ni ⊢; rw [r3.2.1 0 i 0 (by omega)]; exact ni)
      exact ⟨t1.1, tyb_sI (f := 176) rfl t1.2⟩
    have r7 : Ro a N M7 := ⟨fun f b j h => (z1 f b j h).trans (r2.1 f b j h), fun f b j h => (z22 f b j h).trans (r2.2.1 f b j h), fun f b j h => (z21 f b j (fun z => by
      rw [z.2.1, (ff 0 0).2.2] at h
      omega)).trans (r2.2.2 f b j h)⟩
    have n7 : fm_is M7 63 63 a = true := ro_is r7 (isT tNa (by decide) (by decide))
    have ni7 := ro_is r7 ni
    have e175' : M7.2.2 175 a 0 = M.2.2 175 a 0 := (r7.2.1 175 a 0 (by omega)).trans e175
    have e171'' : M7.2.2 171 a 0 = r := (r7.2.1 171 a 0 (by omega)).trans e171
    have e178'' : M7.2.2 178 r 0 = M.2.2 178 r 0 := (r7.2.1 178 r 0 (by omega)).trans e178
    have e149 : M7.2.2 149 i 0 = M2.2.2 149 i 0 := z22 149 i 0 (by omega)
    have hx7 : M7.2.2 0 (M7.2.2 149 i 0) 0 = 53 ∨ M7.2.2 0 (M7.2.2 149 i 0) 0 = 57 := by
      rw [e149, z22 0 _ 0 (by omega)]
      exact U.1.imp (fun h => h.1) (fun h => h.1)
    have D7 := ro_dec r7 tNa hca tNi DN
    -- what is wanted, at every memory that differs in that row alone
    have hW : ∀ Y, wfr (M7.2.2 175 a 0) M7 Y → Wn (M7.2.2 149 i 0) (M7.2.2 171 a 0) i Y q := fun Y hY => by
      obtain ⟨y1, y2, y3⟩ := hY
      have rY : Ro a N Y := ⟨fun f b j h => by rw [y1]; exact r7.1 f b j h, fun f b j h => by rw [y2]; exact r7.2.1 f b j h, fun f b j h => by
        rw [y3 f b j (fun z => ?_)]
        · exact r7.2.2 f b j h
        · rw [z.2, e175', ((fr _ (by omega) (by omega) (nis nW nP (by decide))) 0 0).2.2] at h
          omega⟩
      have nrY : fm_is Y 64 64 r = true := ro_is rY (by unfold fm_is at nr ⊢; rw [(ff 0 0).2.2]; exact nr)
      have SY := st_step (r := r) len (ty_eq y1 y2 T7) nrY (ro_dt rY hca DTN) (ro_od rY ON) (ro_dec rY tNa hca tNi DN)
      have eR : ∀ j, Y.2.1 3 (Y.2.2 178 r 0) j = M.2.1 3 (M.2.2 178 r 0) j := fun j => by
        rw [y2, e178'', y3 3 _ j (fun z => WR (by rw [z.2]; exact e175'.symm)), z21 3 _ j (by omega), l2, (fR 3 j).2.1]
      have eP : Y.2.1 179 r 0 = M.2.1 179 r 0 := by
        rw [y3 179 r 0 (by omega), z21 179 r 0 (by omega), l2, (ff 179 0).2.1]
      rw [show Y.2.1 3 (Y.2.2 178 r 0) = M.2.1 3 (M.2.2 178 r 0) from funext eR, eP, ← pcx] at SY
      have := SY.2 q hq
      rw [e171'']
      rw [y2] at this
      exact this
    have h5 := run_5 (j := 99999994) (ans := (cxI a M w len).1) T7 n7 ni7 hx7 (fd_lt w (hi := 19) (lo := 15) (by decide)) D7.2.1 (fd_lt w (hi := 24) (lo := 20) (by decide)) D7.2.2.1 hW
    have e5 : FX47_run fN a w len M = some ((cxI a M w len).1, wts (M7.2.2 175 a 0) q M7) := eF.trans h5
    rw [e175'] at e5
    have w1 : (wts (M.2.2 175 a 0) q M7).1 = M7.1 := rfl
    have w2 : (wts (M.2.2 175 a 0) q M7).2.2 = M7.2.2 := rfl
    have w3 : ∀ f b j, ¬ (f = 3 ∧ b = M.2.2 175 a 0) → (wts (M.2.2 175 a 0) q M7).2.1 f b j = M7.2.1 f b j :=
      (wfr_s (wfr_s (wfr_s (wfr_s (wfr_s (wfr_r (M.2.2 175 a 0) M7)))))).2.2
    generalize hX : wts (M.2.2 175 a 0) q M7 = X at *
    have rX : Ro a N X := ⟨fun f b j h => by rw [w1]; exact r7.1 f b j h, fun f b j h => by rw [w2]; exact r7.2.1 f b j h, fun f b j h => by
      rw [w3 f b j (fun z => ?_)]
      · exact r7.2.2 f b j h
      · rw [z.2, ((fr _ (by omega) (by omega) (nis nW nP (by decide))) 0 0).2.2] at h
        omega⟩
    refine ⟨X, e5, key X rX (ty_eq w1 w2 T7) ⟨regs X (rX.2.1 171 a 0 (by omega)) (rX.2.1 172 a 0 (by omega)) (rX.2.1 175 a 0 (by omega)) (rX.2.1 178 r 0 (by omega)), fun j => ?_, ?_, fun e => (by rw [hq] at e; cases e), fun q' e => ?_⟩⟩
    · have nz : ¬ (j = 0 ∧ 0 < j) := by omega
      rw [ecw]
      show _ = if j = 0 ∧ 0 < j then _ else _
      rw [if_neg nz, rg, w3 3 _ j (fun z => WR (z.2.symm.trans e178')), z21 3 _ j (by omega), l2, e178', (fR 3 j).2.1]
    · rw [ecw, hr, w3 179 r 0 (by omega), z21 179 r 0 (by omega), l2, (ff 179 0).2.1]
      rfl
    · have eq : q = q' := Option.some.inj (hq.symm.trans e)
      subst eq
      have eX : X.2.2 174 a 0 = i := by rw [w2]; exact z174
      rw [eX]
      have U' : Uk i q X := by
        unfold Uk at U ⊢
        rw [w1, w2, e149, z22 0 _ 0 (by omega), z1 158 i 0 (by omega), z1 159 i 0 (by omega), z1 160 i 0 (by omega), z1 151 i 0 (by omega)]
        exact U
      refine ⟨ro_is rX ni, U', ?_, ?_, ?_, ?_, ?_, ?_⟩
      · rw [w1, ← hM7, rI, if_pos ⟨rfl, rfl, rfl⟩]
      all_goals (rw [← hX]; simp [wts, rL])
end Ri
