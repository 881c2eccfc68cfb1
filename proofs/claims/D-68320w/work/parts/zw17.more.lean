/-! more links: static methods of a superclass -/
section FsMo
variable {E : FE} {p : Program} {l : Launch} {e : Env} {R : Room} {s : State} {m : MethodId} {args : Array Value} {below : List Frame} {meth : Method} {c : Code} {nL NF SF N0 S0 : Nat} {Q : State → Prop} {cc : ByteArray} {own : String} {ret : Option FieldType} {S : FS} {pc idx na d maxL : Nat} {bytes : ByteArray} {rt : Option FieldType}
theorem fs_lk_staticU {x : MethodName} {owner : String} (C : fs_C E p R s m args meth c cc own nL ret NF SF N0 S0) (hd : decode cc pc = .ok (.invokestatic idx, 3)) (hcode : (Cond.code ⟨owner, x.name, x.desc⟩ bytes maxL rt).before args s = true) (hini : (Cond.initialized owner).before args s = true) (hst : (Cond.static ⟨owner, x.name, x.desc⟩).before args s = true)
    (hl : (Cond.methodLink own idx x).before args s = true) (hsm : (Cond.sameMethod x.cls owner x.name x.desc).before args s = true) (hy : owner ≠ "java/lang/invoke/MethodHandle" ∧ owner ≠ "java/lang/invoke/VarHandle") (hps : (parseMethodDescriptor x.desc).map (fun d => d.parameters.length) = some na)
    (hfr : d + 1 ≤ R.frames) (hlo : 8 + (maxL + 11) + 64 * d ≤ R.locals) : fs_Lk E p l e R s m args below meth c nL Q pc (pc + 3) na 0 0 (fs_Con E l d ⟨owner, x.name, x.desc⟩ bytes maxL rt) := by
  obtain ⟨hx, hb, hml, hown, hwm, hlk0, hr, hRR, hE⟩ := C
  intro As rest M M' v H ls locs cells slots hc hlen hR hls hcat hrecv hcells hslots kk
  obtain ⟨hm, hM⟩ := hc
  have hpre : PreS s H (fs_Pc E As M) (As.map (fs_tr E)) := ⟨fs_blind E As M, fun U hU hW => ⟨rfl, hwm.trans hW, by rw [hU]; exact hR⟩⟩
  have hrun : va_Run p l e R s m args below meth c H locs cells slots (fm_nx M' - fm_nx M) (fm_ns M' - fm_ns M) (F0 m pc ls ((As.map (fs_tr E)).reverse ++ rest.map (fs_tr E))) (rest.map (fs_tr E)) (fs_Qc E v M' (As.map (fs_tr E)).toArray) (fun q => E.2.1.size ≤ q) := by
    have hK : Back l R p e below s args ⟨owner, x.name, x.desc⟩ 3 8 (PreOf R (fm_nx M' - fm_nx M) (fm_ns M' - fm_ns M) (fs_Pc E As M)) (PostOf (fs_Qc E v M') (fm_nx M' - fm_nx M) (fm_ns M' - fm_ns M) (fun q => E.2.1.size ≤ q)) :=
      back_of (bytes := bytes) (maxL := maxL) (ret := rt) hM hpre.1 rfl rfl hfr hlo (fs_ws1 hcode) (List.mem_singleton_self _) (fun a' U hW => word_at hW (Or.inl (by first | rfl | simp [Cond.onTables, Cond.keeps, Cond.steady])) hini)
    intro T hT X
    obtain ⟨mk, hnamed⟩ := Cond.code_named hcode
    obtain ⟨methM, cM, hmethM, -, -, -, -, -, -, hsigM⟩ := Cond.code_spec hnamed hcode
    have hstatic : methM.isStatic = true := Cond.static_spec hnamed hmethM hst
    obtain ⟨kP, hkP, -⟩ := className_of_methodNamed hnamed
    have hinitP : kP.init = .initialized := Cond.initialized_spec (findClass_of_methodNamed hnamed) hkP hini
    have hlen2 : (As.map (fs_tr E)).length = methM.sig.parameters.length := by
      rw [List.length_map, hlen]
      exact fs_pars hps _ hsigM
    obtain ⟨vm₁, X₁, hstep₁⟩ := fs_up_call X hx hown hl hsm hy hnamed hmethM hstatic hkP hinitP (g := F0 m pc ls ((As.map (fs_tr E)).reverse ++ rest.map (fs_tr E))) rfl (argsL := As.map (fs_tr E)) (rest := rest.map (fs_tr E)) hlen2 rfl (by rw [hb]; exact hd)
    obtain ⟨v0, ⟨U', l2, c2, s2⟩, X', ⟨g', mk2, t, L, e1, e2, hq, h1, hL, h2, h3⟩, st⟩ := hK m meth c ⟨T.setVm vm₁, locs, cells, slots⟩ (F0 m pc ls (rest.map (fs_tr E))) (.invokestatic idx) mk (As.map (fs_tr E)).toArray X₁ rfl (hls.trans hml.symm) (by rw [hb]; exact hd) (fs_room ls _ rest hcat) (X₁.named hnamed) ⟨hcells, hslots, hpre.2 (T.setVm vm₁) hT X₁.warmed⟩
    dsimp only [Pt.U, Pt.locs, Pt.cells, Pt.slots] at X' e1 e2 h1 h2 h3 st
    subst h1; subst h2; subst h3
    exact ⟨v0, (T.setVm vm₁).calling g' mk2 (As.map (fs_tr E)).toArray, t, U', L, hT, X', hL, e1, e2, hq, fun target h => hstep₁ _ fun acts => by rw [doInvoke_state]; exact st.trans h⟩
  refine fs_run hrun (fun v0 st0 t L hL hq => ?_)
  obtain ⟨rfl, hR'⟩ := fs_fin hq
  exact kk _ L hL hR'
def fs_AA (U : State) : Prop := (Cond.arrayOver (.array .int)).before #[] U = true
theorem fs_AA_moved {u U : State} (hvm : u.vm.Alike U.vm) (h : fs_AA u) : fs_AA U := by
  obtain ⟨comp, c, k, h1, h2, h3, h4, h5⟩ := arrayOverA_spec h
  obtain ⟨k', hk', he⟩ := hvm.2.2 _ _ h3
  have hi : (U.vm.classes.findIdx? fun (x : Class) => match x.kind with | .array component _ => component == comp | _ => false) = some c := by
    refine (va_idx_bare U.vm comp).symm.trans ?_
    rw [hvm.bare_eq]
    exact (va_idx_bare u.vm comp).trans h2
  have hkind : k'.kind = .array comp (.array .int) := by rw [he]; exact h4
  have f1 : U.vm.findClass (FieldType.array .int).toString = some comp := by rw [hvm.findClass]; exact h1
  have f2 : U.vm.findClass ("[" ++ (FieldType.array .int).toString) = some c := by rw [hvm.findClass]; exact h5
  unfold fs_AA Cond.before Cond.holds
  simp only [Cond.value]
  rw [f1, Option.bind_some]
  refine (congrArg (fun o : Option Nat => (o.bind (fun c => (U.vm.classes[c]?).map fun (k : Class) => match k.kind with | .array _ ty => decide (ty = FieldType.array .int) && decide (U.vm.findClass ("[" ++ (FieldType.array .int).toString) = some c) | _ => false) == some true)) hi).trans ?_
  simp [hk', hkind, f2]
/-- an array of arrays of ints -/
theorem fs_newrr {pc n t idx : Nat} (C : fs_C E p R s m args meth c cc own nL ret NF SF N0 S0) (hd : decode cc pc = .ok (.anewarray idx, 3)) (hcl : (Cond.classLink own idx "[I").before args s = true) (hov : fs_AA s)
    (hn : n % 1024 = t) (ht : 910 ≤ t) (hwd : fm_wd t = 4) (hty : E.2.2.2.2.2.2.1 t = .array .int) : fs_Snd S own cc ret nL E p l e R s m args below meth c NF SF N0 S0 Q pc (pc + 3) (.anewarray n) := by
  obtain ⟨hx, hb, hml, hown, hwm, hlk0, hr, hRR, hE⟩ := C
  intro Rt go kr r L st M h hgo hret
  change fe_newa go (n % 1024) (fm_wd (n % 1024)) (n / 1024) (pc + 3) L st M = some r at h
  rw [hn, hwd] at h
  unfold fe_newa at h
  simp only [fi_if] at h
  split at h
  · rename_i v st'
    split at h
    · rename_i hv
      have hnx : fm_nx (fm_newa M t (n / 1024) v.toNatClampNeg) = fm_nx M + 1 := by simp [fm_nx, fm_newa, fm_sR]
      have hns : fm_ns (fm_newa M t (n / 1024) v.toNatClampNeg) = fm_ns M + v.toNatClampNeg := by simp [fm_ns, fm_newa, fm_sR]
      refine fs_alloc hRR hnx hns (hgo _ _ _ _ h) (fun H ls locs cells slots hR b1 b2 kk => ?_)
      refine W.anewA (t := .int) hx hb hown hcl hov rfl hd rfl hv.1 hv.2 b1 b2 (fun cA kA comp f1 f2 f3 f4 => ?_)
      have hAr : ArrOfT s cA (.array .int) := fun N z => ⟨(fun k h => by cases h), kA, f2, comp, f3⟩
      have hRA : va_RA s cA (.array .int) := f1
      have k2 := kk (H.push ({ cls := cA, slots := Array.replicate v.toNatClampNeg .null, vm := .none } : Cell)) (fs_newa_c (h := 0) (cA := cA) hE hR (by omega) (fs_clampN v) (by rw [hty]; exact arrOfT_moved hwm.alike.symm hAr) (by rw [hty]; exact hRA.moved hwm.alike.symm)
        (by rw [Array.getElem?_push_size, arrV_new]; congr 2; funext j; rw [if_neg (by omega), if_neg (by omega)]) (by rw [Array.size_push]) (fun q hq => by rw [Array.getElem?_push, if_neg (Nat.ne_of_lt hq)]))
      have r3 : 1000 ≤ fm_nx M := hR.2.1.1
      have r4 := hR.2.1.2
      have e : ((Value.ref (fm_nx M) :: st').map (fs_tr E)) = .ref H.size :: st'.map (fs_tr E) := by
        rw [fs_map_ref (fs_rv_ne (by omega))]
        unfold fs_ra
        rw [if_neg (by omega), show E.2.1.size + (fm_nx M - 1000) = H.size by omega]
      rw [e] at k2
      exact k2
    · cases h
  · cases h
theorem fs_astrr {pc n : Nat} (C : fs_C E p R s m args meth c cc own nL ret NF SF N0 S0) (hd : decode cc pc = .ok (.aastore, 1)) (hov : fs_AA s) (ht : 910 ≤ n / 1048576) (hwr : E.2.2.2.2.2.2.2 (n / 1048576) = true) (hty : E.2.2.2.2.2.2.1 (n / 1048576) = .array .int) (hlo : n / 1024 % 1024 = 901) (hhi : n % 1024 = 901) : fs_Snd S own cc ret nL E p l e R s m args below meth c NF SF N0 S0 Q pc (pc + 1) (.instanceof n) := by
  obtain ⟨hx, hb, hml, hown, hwm, hlk0, hr, hRR, hE⟩ := C
  intro Rt go kr r L st M h hgo hret
  change fe_astr go n (pc + 1) L st M = some r at h
  unfold fe_astr at h
  simp only [fi_if] at h
  split at h
  · rename_i v i a st'
    split at h
    · rename_i hq
      obtain ⟨hq1, hq2⟩ := hq
      split at h
      · rename_i hv
        have hb2 : ∀ H, fs_Rel E M H → 1000 ≤ a := fun H hR => by
          obtain ⟨t', cA, t1, t2, t3, -⟩ := fs_arr (s := s) hR (by omega) hq1 hwm
          exact fs_wr hR (by rw [t3, show t' = n / 1048576 by omega]; exact hwr)
        refine fs_sto (M' := fm_sR M 3 a i.toNatClampNeg v) rfl rfl (hgo _ _ _ _ h) (fun H ls locs cells slots hR kk => ?_)
        obtain ⟨t', cA, t1, t2, t3, t4, t5, t6, t7, q1, q2⟩ := fs_arr (s := s) hR (by omega) hq1 hwm
        obtain ⟨tv, cV, v1, v2, v3, v4, v5, v6, v7, p1, p2⟩ := fs_arr (s := s) hR (by omega) hv hwm
        obtain rfl : tv = 901 := by omega
        have e : ((Value.ref v :: Value.int i :: Value.ref a :: st').map (fs_tr E)) = .ref (fs_ra E v) :: .int i :: .ref (fs_ra E a) :: st'.map (fs_tr E) := by
          show fs_rv E v :: Value.int i :: fs_rv E a :: _ = _
          rw [fs_rv_ne t6, fs_rv_ne v6]
        rw [e]
        obtain rfl : t' = n / 1048576 := by omega
        rw [hty] at q2
        rw [hE.2.2.1.1] at p2
        have r2 : s.vm.findClass ("[" ++ (FieldType.array .int).toString) = some cA := q2.moved hwm.alike
        have u2 : s.vm.findClass ("[" ++ (FieldType.int).toString) = some cV := p2.moved hwm.alike
        obtain ⟨comp, cA', kA, h1, h2, h3, h4, h5⟩ := arrayOverA_spec hov
        obtain rfl : cA' = cA := Option.some.inj (h5.symm.trans r2)
        obtain rfl : comp = cV := Option.some.inj (h1.symm.trans u2)
        obtain ⟨kE, hkE, -⟩ := Vm.findClass_spec h1
        refine W.aast hx hb t5 (fun q h => by cases h) (fun h => by cases h) h3 h4 rfl hkE ⟨(fm_inw hq2).1, by rw [arrV_size]; exact (fm_inw hq2).2⟩ v5 (fun q h => by cases h) hkE (Vm.assignable_self _ _) rfl rfl hd (fun H' e1 e2 e3 => kk H' _ _ ?_ (fs_ra_new (hb2 H hR)))
        refine fs_Rel_arr hE hR t3 (by omega) hwr q1 (by rw [hty]; exact q2) t7 (fun f b j hb => ⟨rfl, rfl, by simp [fm_sR, hb]⟩) rfl rfl e1 e2 e3 ?_ (fun h => absurd h (by omega))
        have h902 : n / 1048576 ≠ 902 := by omega
        have h910 : ¬ n / 1048576 < 910 := by omega
        funext j
        by_cases hj : j = i.toNatClampNeg
        · simp [fs_av, updV, fm_sR, hj, h902, h910, fs_rv_ne v6]
        · simp [fs_av, updV, fm_sR, hj, h902, h910]
      · cases h
    · cases h
  · cases h
end FsMo
