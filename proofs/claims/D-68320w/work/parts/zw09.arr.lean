/-! arrays are made, references laid into them; casts, constants, switches -/
section FsO
variable {E : FE} {p : Program} {l : Launch} {e : Env} {R : Room} {s : State} {m : MethodId} {args : Array Value} {below : List Frame} {meth : Method} {c : Code} {nL NF SF N0 S0 : Nat} {Q : State → Prop} {cc : ByteArray} {own : String} {ret : Option FieldType} {S : FS}
/-- the cell of a new array -/
theorem fs_newa_c {t k N h : Nat} {M : FM} {H H' : Heap} {cA : ClassId} (hE : fs_good E) (hR : fs_Rel E M H) (ht : 901 ≤ t) (hN : N < 2 ^ 31) (q1 : ArrOfT E.1 cA (E.2.2.2.2.2.2.1 t)) (q2 : va_RA E.1 cA (E.2.2.2.2.2.2.1 t))
    (e1 : H'[H.size]? = some (arrV cA N (fun _ => if t = 902 then .long 0 else if t < 910 then .int 0 else .null))) (e2 : H'.size = H.size + 1) (e3 : ∀ q, q < H.size → H'[q]? = H[q]?) : fs_Rel E (fm_newa M t k N) H' := by
  have r3 : 1000 ≤ fm_nx M := hR.2.1.1
  have r4 := hR.2.1.2
  have hra : fs_ra E (fm_nx M) = H.size := by
    unfold fs_ra
    rw [if_neg (by omega)]
    omega
  have hnx : fm_nx (fm_newa M t k N) = fm_nx M + 1 := by simp [fm_nx, fm_newa, fm_sR]
  refine fs_Rel_new hE hR (by omega : t ≠ 0) (fun f b i hb hb0 => ⟨rfl, rfl, by simp [fm_newa, fm_sR, hb, hb0]⟩) (by simp [fm_newa, fm_sR]; omega) (by simp [fm_newa, fm_sR]) hnx e2 e3 ?_
  unfold fs_cell
  rw [if_neg (by omega)]
  have hlen : (fm_newa M t k N).2.2 1 (fm_nx M) 0 = N := by simp [fm_newa, fm_sR]
  have z : ∀ j, fs_av E (fm_newa M t k N) t (fm_nx M) j = if t = 902 then .long 0 else if t < 910 then .int 0 else .null := fun j => by
    obtain ⟨z1, z2, z3⟩ := hR.2.2.2.2 (fm_nx M) (Nat.le_refl _) 3 j
    have z4 : (fm_newa M t k N).2.2 3 (fm_nx M) j = 0 := by simp [fm_newa, fm_sR, z3]
    have z5 : (fm_newa M t k N).1 3 (fm_nx M) j = 0 := z1
    have z6 : (fm_newa M t k N).2.1 3 (fm_nx M) j = 0 := z2
    unfold fs_av
    rw [z4, z5, z6]
    rfl
  refine ⟨cA, q1, q2, ?_, by rw [hlen]; exact hN, fun h j => ?_⟩
  · rw [hra, e1, hlen]
    congr 2
    funext j
    exact (z j).symm
  · rw [z j, h]
    rfl
theorem fs_clampN (v : Int32) : v.toNatClampNeg < 2 ^ 31 := by
  have := v.toInt_lt
  unfold Int32.toNatClampNeg
  omega
theorem fs_newp {pc n t w : Nat} {at_ : ArrayType} (C : fs_C E p R s m args meth c cc own nL ret NF SF N0 S0) (hd : decode cc pc = .ok (.newarray at_, 2)) (ha : (Cond.arrayClass (newarray.typeOf at_)).before args s = true)
    (hn : n % 1024 = t) (hwd : fm_wd t = w)
    (ht : 901 ≤ t) (h9 : t < 910) (hty : E.2.2.2.2.2.2.1 t = newarray.typeOf at_) (hw : componentBytes (newarray.typeOf at_) ≤ w) (hdv : defaultValue (newarray.typeOf at_) = if t = 902 then .long 0 else .int 0)
    (hra : ∀ (U : State) (cA : ClassId), U.vm.findClass ("[" ++ (newarray.typeOf at_).toString) = some cA → va_RA U cA (newarray.typeOf at_)) : fs_Snd S own cc ret nL E p l e R s m args below meth c NF SF N0 S0 Q pc (pc + 2) (.anewarray n) := by
  obtain ⟨hx, hb, hml, hown, hwm, hlk0, hr, hRR, hE⟩ := C
  intro Rt go kr r L st M h hgo hret
  change fe_newa go (n % 1024) (fm_wd (n % 1024)) (n / 1024) (pc + 2) L st M = some r at h
  rw [hn, hwd] at h
  unfold fe_newa at h
  simp only [fi_if] at h
  split at h
  · rename_i v st'
    split at h
    · rename_i hv
      have hnx : fm_nx (fm_newa M t (n / 1024) v.toNatClampNeg) = fm_nx M + 1 := by simp [fm_nx, fm_newa, fm_sR]
      have hns : fm_ns (fm_newa M t (n / 1024) v.toNatClampNeg) = fm_ns M + v.toNatClampNeg := by simp [fm_ns, fm_newa, fm_sR]
      refine fs_alloc hRR hnx hns (hgo _ _ _ _ h) (fun H ls locs cells slots hR b1 b2 kk => ?_)
      refine va_newaK hx hb ha rfl hd rfl hv.1 rfl (Nat.le_trans (Nat.mul_le_mul_left _ hw) hv.2) b1 b2 rfl (fun H' cA e1 e2 e3 e4 e5 => ?_)
      rw [hdv] at e1
      have k2 := kk H' (fs_newa_c (h := 0) hE hR ht (fs_clampN v) (by rw [hty]; exact arrOfT_moved hwm.alike.symm e4) (by rw [hty]; exact (hra _ _ e5).moved hwm.alike.symm) (by rw [e1]; congr 2; funext j; simp [h9]) e2 e3)
      have r3 : 1000 ≤ fm_nx M := hR.2.1.1
      have r4 := hR.2.1.2
      have e : ((Value.ref (fm_nx M) :: st').map (fs_tr E)) = .ref H.size :: st'.map (fs_tr E) := by
        rw [fs_map_ref (fs_rv_ne (by omega))]
        unfold fs_ra
        rw [if_neg (by omega), show E.2.1.size + (fm_nx M - 1000) = H.size by omega]
      rw [e] at k2
      exact k2
    · cases h
  · cases h
theorem fs_newr {pc n t idx : Nat} {CC : String} (C : fs_C E p R s m args meth c cc own nL ret NF SF N0 S0) (hd : decode cc pc = .ok (.anewarray idx, 3)) (hcl : (Cond.classLink own idx CC).before args s = true) (hov : (Cond.arrayOver (.object CC)).before args s = true)
    (hn : n % 1024 = t) (ht : 910 ≤ t) (hwd : fm_wd t = 4) (hty : E.2.2.2.2.2.2.1 t = .object CC) : fs_Snd S own cc ret nL E p l e R s m args below meth c NF SF N0 S0 Q pc (pc + 3) (.anewarray n) := by
  obtain ⟨hx, hb, hml, hown, hwm, hlk0, hr, hRR, hE⟩ := C
  intro Rt go kr r L st M h hgo hret
  change fe_newa go (n % 1024) (fm_wd (n % 1024)) (n / 1024) (pc + 3) L st M = some r at h
  rw [hn, hwd] at h
  unfold fe_newa at h
  simp only [fi_if] at h
  split at h
  · rename_i v st'
    split at h
    · rename_i hv
      have hnx : fm_nx (fm_newa M t (n / 1024) v.toNatClampNeg) = fm_nx M + 1 := by simp [fm_nx, fm_newa, fm_sR]
      have hns : fm_ns (fm_newa M t (n / 1024) v.toNatClampNeg) = fm_ns M + v.toNatClampNeg := by simp [fm_ns, fm_newa, fm_sR]
      refine fs_alloc hRR hnx hns (hgo _ _ _ _ h) (fun H ls locs cells slots hR b1 b2 kk => ?_)
      refine W.anew hx hb hown hcl hov rfl hd rfl hv.1 hv.2 b1 b2 (fun cA kA comp f1 f2 f3 f4 => ?_)
      have hAr : ArrOfT s cA (.object CC) := fun N z => ⟨(fun k h => by cases h), kA, f2, comp, f3⟩
      have hRA : va_RA s cA (.object CC) := ⟨kA, comp, f2, f3, f4, f1⟩
      have k2 := kk (H.push ({ cls := cA, slots := Array.replicate v.toNatClampNeg .null, vm := .none } : Cell)) (fs_newa_c (h := 0) (cA := cA) hE hR (by omega) (fs_clampN v) (by rw [hty]; exact arrOfT_moved hwm.alike.symm hAr) (by rw [hty]; exact hRA.moved hwm.alike.symm)
        (by rw [Array.getElem?_push_size, arrV_new]; congr 2; funext j; rw [if_neg (by omega), if_neg (by omega)]) (by rw [Array.size_push]) (fun q hq => by rw [Array.getElem?_push, if_neg (Nat.ne_of_lt hq)]))
      have r3 : 1000 ≤ fm_nx M := hR.2.1.1
      have r4 := hR.2.1.2
      have e : ((Value.ref (fm_nx M) :: st').map (fs_tr E)) = .ref H.size :: st'.map (fs_tr E) := by
        rw [fs_map_ref (fs_rv_ne (by omega))]
        unfold fs_ra
        rw [if_neg (by omega), show E.2.1.size + (fm_nx M - 1000) = H.size by omega]
      rw [e] at k2
      exact k2
    · cases h
  · cases h
theorem fs_astr {pc n : Nat} {EE : String} (C : fs_C E p R s m args meth c cc own nL ret NF SF N0 S0) (hd : decode cc pc = .ok (.aastore, 1)) (ht : 910 ≤ n / 1048576) (hwr : E.2.2.2.2.2.2.2 (n / 1048576) = true) (hty : E.2.2.2.2.2.2.1 (n / 1048576) = .object EE) (hlo : 0 < n / 1024 % 1024) (hhi : n % 1024 < 900)
    (hc : ∀ t, n / 1024 % 1024 ≤ t → t ≤ n % 1024 → ∃ q : vw_C, E.2.2.2.2.1[t]? = some q ∧ (q.1 = EE ∨ (Cond.castable q.1 EE).before args s = true)) : fs_Snd S own cc ret nL E p l e R s m args below meth c NF SF N0 S0 Q pc (pc + 1) (.instanceof n) := by
  obtain ⟨hx, hb, hml, hown, hwm, hlk0, hr, hRR, hE⟩ := C
  intro Rt go kr r L st M h hgo hret
  change fe_astr go n (pc + 1) L st M = some r at h
  unfold fe_astr at h
  simp only [fi_if] at h
  split at h
  · rename_i v i a st'
    split at h
    · rename_i hq
      obtain ⟨hq1, hq2⟩ := hq
      split at h
      · rename_i hv
        have hb2 : ∀ H, fs_Rel E M H → 1000 ≤ a := fun H hR => by
          obtain ⟨t', cA, t1, t2, t3, -⟩ := fs_arr (s := s) hR (by omega) hq1 hwm
          exact fs_wr hR (by rw [t3, show t' = n / 1048576 by omega]; exact hwr)
        refine fs_sto (M' := fm_sR M 3 a i.toNatClampNeg v) rfl rfl (hgo _ _ _ _ h) (fun H ls locs cells slots hR kk => ?_)
        obtain ⟨t', cA, t1, t2, t3, t4, t5, t6, t7, q1, q2⟩ := fs_arr (s := s) hR (by omega) hq1 hwm
        obtain ⟨tv, v1, v2, v3, v4, qv, v5, cell, w1, w2, w3, -⟩ := fs_obj hR hlo hhi hv
        obtain ⟨qv', g1, g2⟩ := hc tv v1 v2
        obtain rfl : qv' = qv := Option.some.inj (g1.symm.trans v5)
        have e : ((Value.ref v :: Value.int i :: Value.ref a :: st').map (fs_tr E)) = .ref (fs_ra E v) :: .int i :: .ref (fs_ra E a) :: st'.map (fs_tr E) := by
          show fs_rv E v :: Value.int i :: fs_rv E a :: _ = _
          rw [fs_rv_ne t6, fs_rv_ne v4]
        rw [e]
        obtain rfl : t' = n / 1048576 := by omega
        have hcls := ((fs_K (s := s) hE hwm).1 tv _ v5).2
        rw [hty] at q2
        obtain ⟨kA, comp, k1, k2, k3, -⟩ := q2.moved hwm.alike
        obtain ⟨kE, hkE, -⟩ := Vm.findClass_spec k3
        have hasg : s.vm.assignable cell.cls comp = true ∧ ∃ kv, s.vm.classes[cell.cls]? = some kv := by
          rw [w2]
          obtain ⟨kC, hkC, -⟩ := hcls.2
          refine ⟨?_, kC, hkC⟩
          rcases g2 with g2 | g2
          · have hh := hcls.1
            rw [g2] at hh
            obtain rfl : comp = _ := Option.some.inj (k3.symm.trans hh)
            exact va_assign hcls
          · obtain ⟨c0, t1, f1, f2, f3⟩ := Cond.castable_spec g2
            cases hcls.1.symm.trans f1
            cases k3.symm.trans f2
            exact f3
        obtain ⟨hasg, kv, hkv⟩ := hasg
        refine W.aast hx hb t5 (fun q h => by cases h) (fun h => by cases h) k1 k2 rfl hkE ⟨(fm_inw hq2).1, by rw [arrV_size]; exact (fm_inw hq2).2⟩ w1 (fun q h => by rw [w3] at h; cases h) hkv hasg rfl rfl hd (fun H' e1 e2 e3 => kk H' _ _ ?_ (fs_ra_new (hb2 H hR)))
        refine fs_Rel_arr hE hR t3 (by omega) hwr q1 (by rw [hty]; exact q2) t7 (fun f b j hb => ⟨rfl, rfl, by simp [fm_sR, hb]⟩) rfl rfl e1 e2 e3 ?_ (fun h => absurd h (by omega))
        have h902 : n / 1048576 ≠ 902 := by omega
        have h910 : ¬ n / 1048576 < 910 := by omega
        funext j
        by_cases hj : j = i.toNatClampNeg
        · simp [fs_av, updV, fm_sR, hj, h902, h910, fs_rv_ne v4]
        · simp [fs_av, updV, fm_sR, hj, h902, h910]
      · cases h
    · cases h
  · cases h
theorem fs_cast {pc n idx : Nat} {nm : String} (C : fs_C E p R s m args meth c cc own nL ret NF SF N0 S0) (hd : decode cc pc = .ok (.checkcast idx, 3)) (hcl : (Cond.classLink own idx nm).before args s = true) (hlo : 0 < n / 1024) (hhi : n % 1024 < 900)
    (hc : ∀ t, n / 1024 ≤ t → t ≤ n % 1024 → ∃ q : vw_C, E.2.2.2.2.1[t]? = some q ∧ (Cond.castable q.1 nm).before args s = true) : fs_Snd S own cc ret nL E p l e R s m args below meth c NF SF N0 S0 Q pc (pc + 3) (.checkcast n) := by
  obtain ⟨hx, hb, hml, hown, hwm, hlk0, hr, hRR, hE⟩ := C
  intro Rt go kr r L st M h hgo hret
  dsimp only [fx_step, fe_step] at h
  try simp only [fi_if] at h
  split at h
  · rename_i a st'
    split at h
    · rename_i hv
      refine fs_rel (hgo _ _ _ _ h) (fun H ls locs cells slots hR _ k => ?_)
      obtain ⟨tv, v1, v2, v3, v4, qv, v5, cell, w1, w2, w3, -⟩ := fs_obj hR hlo hhi hv
      obtain ⟨qv', g1, g2⟩ := hc tv v1 v2
      obtain rfl : qv' = qv := Option.some.inj (g1.symm.trans v5)
      have hcls := ((fs_K (s := s) hE hwm).1 tv _ v5).2
      rw [fs_map_ref (fs_rv_ne v4)] at k ⊢
      exact va_castY hx hb hown hcl (va_Nw.of rfl g2) ⟨cell, w1, by rw [w3]; rfl, by rw [w2]; exact hcls.1⟩ hd k
    · cases h
  · cases h
theorem fs_ldci {pc idx : Nat} {v : Int} (C : fs_C E p R s m args meth c cc own nL ret NF SF N0 S0) (hd : decode cc pc = .ok (.ldc idx, 2)) (hk : (Cond.constant own idx (Int32.ofInt v)).before args s = true) : fs_Snd S own cc ret nL E p l e R s m args below meth c NF SF N0 S0 Q pc (pc + 2) (.iconst v) := by
  obtain ⟨hx, hb, hml, hown, hwm, hlk0, hr, hRR, hE⟩ := C
  intro Rt go kr r L st M h hgo hret
  exact fs_pure (hgo _ _ _ _ h) (fun H ls locs cells slots k => W.ldc hx hb hown hk rfl hd k)
theorem fs_ldcl {pc idx : Nat} {v : Int} (C : fs_C E p R s m args meth c cc own nL ret NF SF N0 S0) (hd : decode cc pc = .ok (.ldc2_w idx, 3)) (hk : (Cond.constantLong own idx (Int64.ofInt v)).before args s = true) : fs_Snd S own cc ret nL E p l e R s m args below meth c NF SF N0 S0 Q pc (pc + 3) (.jsr_w v) := by
  obtain ⟨hx, hb, hml, hown, hwm, hlk0, hr, hRR, hE⟩ := C
  intro Rt go kr r L st M h hgo hret
  exact fs_pure (hgo _ _ _ _ h) (fun H ls locs cells slots k => lv_ldc2 hx hb hown hk hd k)
theorem fs_init {pc idx : Nat} (C : fs_C E p R s m args meth c cc own nL ret NF SF N0 S0) (hd : decode cc pc = .ok (.invokespecial idx, 3)) (hl : (Cond.methodLink own idx Lib.objectInit).before args s = true) (hi : (Cond.instanceMethod Lib.objectInit).before args s = true) (hc : (Cond.code Lib.objectInit ⟨#[0xb1]⟩ 1 none).before args s = true)
    (hf : 1 ≤ R.frames ∧ 64 ≤ R.locals) : fs_Snd S own cc ret nL E p l e R s m args below meth c NF SF N0 S0 Q pc (pc + 3) .monitorenter := by
  obtain ⟨hx, hb, hml, hown, hwm, hlk0, hr, hRR, hE⟩ := C
  intro Rt go kr r L st M h hgo hret
  dsimp only [fx_step, fe_step] at h
  try simp only [fi_if] at h
  split at h
  · rename_i a st'
    split at h
    · cases h
    · rename_i ha
      cases hst : Nat.ble (st'.map Value.category).sum 8 with
      | false =>
        rw [hst] at h
        cases h
      | true =>
        rw [hst] at h
        have hst := Nat.ble_eq.mp hst
        refine fs_pureL (hgo _ _ _ _ h) (fun H ls locs cells slots hl0 k => ?_)
        rw [fs_map_ref (fs_rv_ne ha)]
        refine W.objInit hx hb hown hl hi hc rfl (by rw [hml]; exact hl0.1) rfl hd hf.1 ?_ k
        have e : ((st'.map (fs_tr E)).map fun v => v.category).sum = (st'.map fun v => v.category).sum := by
          rw [List.map_map]
          congr 2
          funext v
          exact fs_tr_cat E v
        rw [e]
        show 2 * 0 + _ + 12 ≤ R.locals
        have hst : (st'.map fun v => v.category).sum ≤ 8 := hst
        omega
  · cases h
end FsO
