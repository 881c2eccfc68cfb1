/-! a static method that the named class inherits: cold as warm -/
section FsUp
variable {Qa : Unit → Pre} {Ea : CtlPost} {e : Env} {dd : Bool} {acts : List Action} {T s0 : State} {f : JFrame}
/-- what the call reads of the tables, in whatever way they have been warmed -/
theorem fs_up_look {vm : Vm} {d cn : Nat} {dk ck : Class} {cf : ClassFile} {nm : String} (hw : s0.WarmedH vm) (h1 : s0.vm.classes[d]? = some dk) (h2 : dk.cf = some cf) (hc : s0.vm.classes[cn]? = some ck)
    (hno : (ck.methods.any fun y => y.name == nm && !y.isStatic && signaturePolymorphic ck y) = false) :
    ∃ k kc, vm.classes[d]? = some k ∧ k.cf = some cf ∧ vm.classes[cn]? = some kc ∧ (kc.methods.any fun y => y.name == nm && !y.isStatic && signaturePolymorphic kc y) = false := by
  obtain ⟨k, hk, ek⟩ := hw.alike.2.2 _ _ h1
  obtain ⟨kc, hkc, ekc⟩ := hw.alike.2.2 _ _ hc
  exact ⟨k, kc, hk, by rw [ek]; exact h2, hkc, by rw [ekc]; exact hno⟩
theorem fs_up_wp {index ci n cn : Nat} {m' : MethodId} {dk ck : Class} {cf : ClassFile} {nm ds : String} (ht : T.topJava?.isSome) (hp : e.platform.polymorphicOnlyByInvokevirtual = true) (hE : s0.MethodEntryUp e T.vm f.method.cls index cn m' ci) (hw : s0.WarmedH T.vm)
    (h1 : s0.vm.classes[f.method.cls]? = some dk) (h2 : dk.cf = some cf) (h3 : cf.constantPool[index]? = some (if false then .interfaceMethodref ci n else .methodref ci n)) (h4 : cf.constantPool.nameAndType? n = some (nm, ds)) (hc : s0.vm.classes[cn]? = some ck)
    (hno : (ck.methods.any fun y => y.name == nm && !y.isStatic && signaturePolymorphic ck y) = false) :
    wp (Op.invokestatic.sem index) Qa Ea e dd acts (T.setTop f) ↔ wp (Op.invokestatic.sem index) Qa Ea e dd acts ((T.setVm (T.vm.calledUp f.method.cls ci index cn m')).setTop f) := by
  obtain ⟨a, a', a1, a2, a3, a4⟩ := fs_up_look hw h1 h2 hc hno
  obtain ⟨b, b', b1, b2, b3, b4⟩ := fs_up_look hE.classFirst.2.2.1 h1 h2 hc hno
  obtain ⟨k, k', k1, k2, k3, k4⟩ := fs_up_look hE.warmed h1 h2 hc hno
  have t1 : (T.setVm (T.vm.noted f.method.cls ci (.cls cn))).topJava?.isSome := ht
  have t2 : (T.setVm (T.vm.calledUp f.method.cls ci index cn m')).topJava?.isSome := ht
  have m0 := State.method?_setTop f ht
  have m2 := State.method?_setTop f t2
  have r0 := memberRef_ask_via (e := e) a1 a2 h3 h4
  have r2 := memberRef_ask_via (e := e) k1 k2 h3 h4
  have g1 : ∀ {Q' : ClassId → Pre} {d' : Bool} {as : List Action}, wp (Jvm.resolveClassAt ci) Q' Ea e d' as (T.setTop f) ↔ Q' cn d' as ((T.setVm (T.vm.noted f.method.cls ci (.cls cn))).setTop f) := W.resolveClassAt_links (t := T.setTop f) m0 hE.classFirst.1
  have g2 : ∀ {Q' : MethodId → Pre} {d' : Bool} {as : List Action}, wp (Jvm.resolveMethodAt index) Q' Ea e d' as ((T.setVm (T.vm.noted f.method.cls ci (.cls cn))).setTop f) ↔ Q' m' d' as ((T.setVm (T.vm.calledUp f.method.cls ci index cn m')).setTop f) :=
    W.resolveMethodAt_links (t := (T.setVm (T.vm.noted f.method.cls ci (.cls cn))).setTop f) (State.method?_setTop f t1) hE.classFirst.2.2.2
  simp [Op.invokestatic.sem, hp, Seam.memberRefOf, m0, m2, r0, r2, g1, g2, b3, b4, k3, k4, W.resolveClassAt_ready (s := (T.setVm (T.vm.calledUp f.method.cls ci index cn m')).setTop f) m2 hE.classReady, W.resolveMethodAt_ready (s := (T.setVm (T.vm.calledUp f.method.cls ci index cn m')).setTop f) m2 hE.ready, -Array.any_eq_true]
end FsUp
section FsUq
variable {p : Program} {l : Launch} {e : Env} {R : Room} {s : State} {m : MethodId} {args : Array Value} {below : List Frame} {meth : Method} {c : Code} {T : State} {locs : List Loc} {cells slots : Nat}
theorem fs_up_call (X : Stand p l e R s m args below meth c T locs cells slots) (hx : p.tables.exec = Jvm.exec) {own owner : String} {idx : Nat} {x : MethodName} (hown : s.vm.findClass own = some m.cls) (hl : (Cond.methodLink own idx x).before args s = true)
    (hsm : (Cond.sameMethod x.cls owner x.name x.desc).before args s = true) (hy : owner ≠ "java/lang/invoke/MethodHandle" ∧ owner ≠ "java/lang/invoke/VarHandle") {mM : MethodId} {methM : Method} {kP : Class} (hn : s.methodNamed? ⟨owner, x.name, x.desc⟩ = some mM)
    (hM : s.vm.method? mM = some methM) (hst : methM.isStatic = true) (hkP : s.vm.classes[mM.cls]? = some kP) (hi : kP.init = .initialized) {g : JFrame} (hg : g.method = m) {argsL rest : List Value} (hlen : argsL.length = methM.sig.parameters.length)
    (hstk : g.stack = argsL.reverse ++ rest) (hd : decode c.code g.pc = .ok (.invokestatic idx, 3)) : ∃ vm₁, Stand p l e R s m args below meth c (T.setVm vm₁) locs cells slots ∧
      ∀ target, (∀ acts, Steps p.tables e below (doInvoke e ((T.setVm vm₁).setTop { g with stack := rest }) acts mM argsL.toArray).1 target) → Steps p.tables e below (T.setTop g) target := by
  obtain ⟨cn, ck, r1, q1, q2, q3, q4, q5⟩ := Cond.sameMethod_found hsm
  obtain rfl : r1 = mM := Option.some.inj (q5.symm.trans hn)
  obtain ⟨ci, hL, hr⟩ := Cond.methodLink_specUp hown q1 q2 q3 q4 hl e.platform (by rw [X.admits.platform]) (by rw [X.admits.platform])
  have hE := State.methodEntryUp (e := e) X.warmed hL hr
  obtain ⟨kx, hkx, hnx⟩ := className_of_methodNamed hn
  obtain rfl : kP = kx := Option.some.inj (hkP.symm.trans hkx)
  obtain ⟨dk, cfile, nt, mn, md, ck', _, _, u1, u2, u3, u4, -, -, u5, -, u6, -⟩ := hL.here
  obtain rfl : ck = ck' := Option.some.inj (q2.symm.trans u5)
  have u7 : cfile.constantPool[idx]? = some (if false then .interfaceMethodref ci nt else .methodref ci nt) := u3
  have no : (ck.methods.any fun y => y.name == mn && !y.isStatic && signaturePolymorphic ck y) = false := by simp [u6]
  obtain ⟨k, k', k1, k2, k3, k4⟩ := fs_up_look hE.warmed u1 u2 q2 no
  obtain ⟨z, z1, z2⟩ := hE.warmed.alike.2.2 _ _ hkP
  refine ⟨_, X.noted hE.warmed, fun target ht => ?_⟩
  subst hg
  jvm_step X.here [hx, hd, fs_up_wp (e := e) (T := T) (s0 := s) (f := g) X.here.top (by rw [X.admits.platform]) hE X.warmed u1 u2 u7 u4 q2 no,
    Op.invokestatic.wp_ready (e := e) (s := T.setVm (T.vm.calledUp g.method.cls ci idx cn r1)) (k := z) (meth := methM) (m := r1) (args := argsL) (rest := rest) (f := g) X.here.top
      ⟨ci, mn, md, false, cn, k', memberRef_ask_via (e := e) k1 k2 u7 u4, hE.classReady, k3, k4⟩ hE.ready z1 ((hE.warmed.alike.method? r1).trans hM) (by rw [z2]; show signaturePolymorphic kP methM = false; simp [signaturePolymorphic, hnx, hy.1, hy.2]) hst (by rw [z2]; exact hi) hlen hstk]
  exact fun acts => ht _
end FsUq
