/-! an enum's values(): the array of its constants is copied -/
/-- where the array of an enum's constants stands at the start -/
def fs_vs (E : FE) (X ds : String) (n c0 : Nat) : Prop := ∃ (A : Nat) (cA : ClassId), va_Z X "$VALUES" ds (.ref A) (fun a => E.2.1.size ≤ a) E.1 E.2.1 ∧ ArrOfT E.1 cA (.object X) ∧ va_RA E.1 cA (.object X) ∧ E.2.1[A]? = some (arrV cA n (fun j => .ref (E.2.2.1 (c0 + j))))
theorem fs_arrc {c : ClassId} {N : Nat} {f g : Nat → Value} (h : ∀ j, j < N → f j = g j) : arrV c N f = arrV c N g := by
  unfold arrV
  congr 2
  funext j
  exact h j.val j.isLt
/-- what values() gives -/
def fs_vv (t st n c0 : Nat) (M : FM) : Nat × FM := (fm_nx M, ((fm_newa M t st n).1, (fm_newa M t st n).2.1, fun f a i => if f = 3 ∧ a = fm_nx M ∧ i < n then c0 + i else (fm_newa M t st n).2.2 f a i))
/-- the words of such a method -/
def fs_vw (X ds ad : String) (i0 i1 i2 : Nat) (args : Array Value) (s : State) : Prop := (Cond.fieldLink X i0 X "$VALUES" ds).before args s = true ∧ (Cond.methodLink X i1 ⟨ad, "clone", "()Ljava/lang/Object;"⟩).before args s = true ∧ (Cond.sameMethod ad "java/lang/Object" "clone" "()Ljava/lang/Object;").before args s = true ∧
  (Cond.native ⟨"java/lang/Object", "clone", "()Ljava/lang/Object;"⟩).before args s = true ∧ (Cond.instanceMethod ⟨"java/lang/Object", "clone", "()Ljava/lang/Object;"⟩).before args s = true ∧ (Cond.selects ad ⟨ad, "clone", "()Ljava/lang/Object;"⟩ ⟨"java/lang/Object", "clone", "()Ljava/lang/Object;"⟩).before args s = true ∧
  (Cond.castable ad "java/lang/Cloneable").before args s = true ∧ (Cond.classLink X i2 ad).before args s = true
theorem fs_vv_mono {t st n c0 : Nat} {M : FM} : fm_nx M ≤ fm_nx (fs_vv t st n c0 M).2 ∧ fm_ns M ≤ fm_ns (fs_vv t st n c0 M).2 := by
  have e1 : fm_nx (fs_vv t st n c0 M).2 = fm_nx M + 1 := by simp [fm_nx, fs_vv, fm_newa, fm_sR]
  have e2 : fm_ns (fs_vv t st n c0 M).2 = fm_ns M + n := by simp [fm_ns, fs_vv, fm_newa, fm_sR]
  omega
theorem fs_values {E : FE} (hE : fs_good E) (l : Launch) {X ds ad : String} {cc : ByteArray} {i0 i1 i2 n c0 t st : Nat} {y : MethodName} (hy : y.cls = X) (hpl : plainName y.cls = true)
    (hd0 : decode cc 0 = .ok (.getstatic i0, 3)) (hd1 : decode cc 3 = .ok (.invokevirtual i1, 3)) (hd2 : decode cc 6 = .ok (.checkcast i2, 3)) (hd3 : decode cc 9 = .ok (.areturn, 1))
    (hw : ∀ (args : Array Value) (s : State), E.1.WarmedH s.vm → fs_vw X ds ad i0 i1 i2 args s) (hV : fs_vs E X ds n c0) (ht : 910 ≤ t) (hty : E.2.2.2.2.2.2.1 t = .object X) (hn : n < 2 ^ 31) (hc0 : 0 < c0) (hcn : c0 + n ≤ 1000) (had : ad = "[" ++ (FieldType.object X).toString) (M : FM) :
    fs_Con E l 1 y cc 0 (some (.array (.object X))) [] M (some (.ref (fs_vv t st n c0 M).1)) (fs_vv t st n c0 M).2 := by
  have hnx : fm_nx (fs_vv t st n c0 M).2 = fm_nx M + 1 := by simp [fm_nx, fs_vv, fm_newa, fm_sR]
  have hns : fm_ns (fs_vv t st n c0 M).2 = fm_ns M + n := by simp [fm_ns, fs_vv, fm_newa, fm_sR]
  refine ⟨fs_vv_mono, ?_⟩
  refine Met.ofW (cc := cc) (maxL := 0) (ret := some (.array (.object X))) hpl rfl ?_
  intro p e s m args below meth c s₁ B hml hv
  obtain ⟨rfl, hwm, hR⟩ := hv
  have hf : s.vm.findClass X = some m.cls := by
    rw [← hy]
    exact findClass_of_methodNamed B.named
  obtain ⟨w1, w2, w3, w4, w5, w6, w7, w8⟩ := hw (([] : List Value).map (fs_tr E)).toArray s hwm
  obtain ⟨A, cA, hZ, hA, hRA, hcell⟩ := hV
  obtain ⟨cf, kf, fi, f, a, cell, h1, h2, h3, h4, h5, h6, h7, h8⟩ := hZ.moved hwm.alike
  have ha : a < E.2.1.size := (Array.getElem?_eq_some_iff.mp h5).1
  have hAl : A < E.2.1.size := (Array.getElem?_eq_some_iff.mp hcell).1
  have hH : s.heap[A]? = some (arrV cA n (fun j => .ref (E.2.2.1 (c0 + j)))) := by rw [hR.1.2 A hAl]; exact hcell
  have hRs := hRA.moved hwm.alike
  obtain ⟨kA, comp, k1, k2, k3, k4⟩ := hRs
  have hnm : s.vm.findClass ad = some cA := by rw [had]; exact k4
  obtain ⟨c1, t1, f1, f2, f3⟩ := Cond.castable_spec w7
  cases hnm.symm.trans f1
  have r3 : 1000 ≤ fm_nx M := hR.2.1.1
  have r4 := hR.2.1.2
  have hra : fs_ra E (fm_nx M) = s.heap.size := by
    unfold fs_ra
    rw [if_neg (by omega)]
    omega
  have n1 : fm_nx (fs_vv t st n c0 M).2 - fm_nx M = 0 + 1 := by omega
  have n2 : fm_ns (fs_vv t st n c0 M).2 - fm_ns M = 0 + n := by omega
  have hH1 : (s.heap.push (arrV cA n (fun j => .ref (E.2.2.1 (c0 + j)))))[s.heap.size]? = some (arrV cA n (fun j => .ref (E.2.2.1 (c0 + j)))) := by rw [Array.getElem?_push_size]
  have hR' : fs_Rel E (fs_vv t st n c0 M).2 (s.heap.push (arrV cA n (fun j => .ref (E.2.2.1 (c0 + j))))) := by
    have l1 : (fs_vv t st n c0 M).2.2.2 1 (fm_nx M) 0 = n := by simp [fs_vv, fm_newa, fm_sR]
    refine fs_Rel_new (t := t) hE hR (by omega) (fun g b i hb hb0 => ⟨rfl, rfl, by simp [fs_vv, fm_newa, fm_sR, hb, hb0]⟩) (by simp [fs_vv, fm_newa, fm_sR]; omega) (by simp [fs_vv, fm_newa, fm_sR]) hnx (by rw [Array.size_push]) (fun q hq => by rw [Array.getElem?_push, if_neg (Nat.ne_of_lt hq)]) ?_
    unfold fs_cell
    rw [if_neg (by omega)]
    refine ⟨cA, by rw [hty]; exact hA, by rw [hty]; exact hRA, ?_, by rw [l1]; exact hn, fun h => absurd h (by omega)⟩
    rw [hra, hH1, l1]
    refine congrArg some (fs_arrc (fun j hj => ?_))
    have e3 : (fs_vv t st n c0 M).2.2.2 3 (fm_nx M) j = c0 + j := by simp [fs_vv, hj]
    unfold fs_av
    rw [if_neg (by omega), if_neg (by omega), e3, fs_rv_ne (by omega)]
    unfold fs_ra
    rw [if_pos (by omega)]
  obtain ⟨ls, els, hls⟩ : ∃ ls, entryFrame m ((([] : List Value).map (fs_tr E)).toArray) 0 = F0 m 0 ls [] ∧ ls.size = 0 := ⟨_, lg_entry_eq _ _ _, (lv_entry _ (Nat.le_refl _)).1⟩
  rw [els]
  refine W.gets B.exec B.bytes hf w1 h1 h2 h3 h4 (by rw [hR.1.2 a ha]; exact h5) (fun q => by rw [q] at h6; cases h6) h7 rfl hd0 ?_
  intro T hT X0
  obtain ⟨vm', X', st'⟩ := X0.cloneArray B.exec hf w2 w3 w4 w5 w6 (a := A) (cell := arrV cA n (fun j => .ref (E.2.2.1 (c0 + j)))) (by rw [hT]; exact hH) (fun k h => by cases h) (fun h => by cases h) hnm f2 f3
    (fun i v hv => by
      obtain ⟨kA', hk', he⟩ := X0.warmed.alike.2.2 _ _ k1
      have hvr : ∃ q, v = Value.ref q := by
        by_cases hi : i < n
        · rw [arrV_read _ _ hi] at hv
          exact ⟨_, (Option.some.inj hv).symm⟩
        · rw [Array.getElem?_eq_none (by rw [arrV_size]; omega)] at hv
          cases hv
      obtain ⟨q, rfl⟩ := hvr
      have hkind : kA'.kind = .array comp (.object X) := by rw [he]; exact k2
      show T.fitsSlot cA .none i (.ref q) = true
      simp [State.fitsSlot, State.slotType?, hk', hkind, fits])
    (g := F0 m 3 ls [.ref A]) rfl (hls.trans hml.symm) rfl (by rw [B.bytes]; exact hd1) (Nat.le_refl _) (by show 2 * 0 + 0 + 14 ≤ 64 * 1; omega) (by show 0 + 1 ≤ fm_nx _ - fm_nx M; omega) (by rw [arrV_size]; show 0 + n ≤ fm_ns _ - fm_ns M; omega) (hloader := Vm.clonesLoader_of_array k1 k2)
  have hW2 : W p l e (fs_rm 1 M (fs_vv t st n c0 M).2) s m (([] : List Value).map (fs_tr E)).toArray below meth c (s.heap.push (arrV cA n (fun j => .ref (E.2.2.1 (c0 + j))))) [] (0 + 1) (0 + n) (MQ below (fs_Qc E (some (.ref (fs_vv t st n c0 M).1)) (fs_vv t st n c0 M).2) (([] : List Value).map (fs_tr E)).toArray s (0 + 1) (0 + n) (fun q => E.2.1.size ≤ q)) (F0 m 6 ls [.ref s.heap.size]) :=
    va_castE B.exec B.bytes hf w8 ⟨_, hH1, rfl, hnm⟩ hd2 (W.aret B.exec B.bytes B.returns (Or.inr ⟨_, rfl⟩) (Or.inr ⟨_, rfl⟩) (fun U hU _ => ⟨by
      show Outcome.returned (some (Value.ref s.heap.size)) = .returned (some (fs_rv E (fm_nx M)))
      rw [fs_rv_ne (by omega), hra], by rw [hU]; exact hR'⟩) (fun q hq => by cases hq) hd3)
  rw [n1, n2]
  rw [arrV_size] at X'
  obtain ⟨U, b1, b2⟩ := hW2 _ (by rw [← hT]; rfl) X'
  exact ⟨U, by rw [hT] at st'; exact st' U b1, b2⟩
