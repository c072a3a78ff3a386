/-! 36 LAM: objects that a lambda makes: how they are made, how they are called (mine) -/
theorem lD_is {σ : Lambda.Shape} (h : (σ.file "FreightRoads").isSome = true) : σ.file "FreightRoads" = some (lD σ) := by
  obtain ⟨x, hx⟩ := Option.isSome_iff_exists.mp h
  simp [lD, hx]
theorem lF_is {σ : Lambda.Shape} (h : ((layoutMethods (lD σ)).bind (·[1]?)).isSome = true) : ∀ ms, layoutMethods (lD σ) = some ms → ms[1]? = some (lF σ) := by
  intro ms hms
  obtain ⟨x, hx⟩ := Option.isSome_iff_exists.mp h
  have hf : lF σ = x := by simp [lF, hx]
  rw [hms] at hx
  rw [hf]
  exact hx
theorem lL_is {σ : Lambda.Shape} (h : (layoutFields (lD σ) 0).isSome = true) : layoutFields (lD σ) 0 = some (lL σ) := by
  obtain ⟨x, hx⟩ := Option.isSome_iff_exists.mp h
  simp [lL, hx]
theorem made_gen {σ : Lambda.Shape} {bs : ByteArray} {ml im ic nt cn : Nat} (H : LSok σ bs ml im ic nt cn) {e : Setting} {vm : Vm} {d c : ClassId} {dk : Class} (hd : vm.classes[d]? = some dk) (hname : dk.name = "FreightRoads") (h : Lambda.isMade e vm d σ c = true)
    (hO : ∀ o ok, vm.findClass "java/lang/Object" = some o → vm.classes[o]? = some ok → ok.instanceTypes.size = 0) :
    ∃ (k tk : Class) (file : ClassFile) (methk : Method) (ck : Code) (toy : ClassId) (t : MethodId),
      vm.classes[c]? = some k ∧ k.name = "FreightRoads$$Lambda" ∧ k.cf = some file ∧ file.constantPool = (lD σ).constantPool ∧
      vm.method? ⟨c, 1⟩ = some methk ∧ methk.code = some ck ∧ ck.code = bs ∧ ck.maxLocals = ml ∧ ck.exceptionTable = #[] ∧ methk.locks = false ∧ methk.accessFlags = 0x0001 ∧ methk.sig.returnType = σ.sam.returnType ∧
      vm.findClass "FreightRoads" = some toy ∧ vm.classes[toy]? = some tk ∧ tk.isInterface = false ∧ ((methodIn toy σ.implName σ.implDesc.toString tk.isInterface none).ask e vm).1 = .ok t ∧
      vm.methodReady c im t ∧ vm.classReady c ic toy ∧ k.instanceTypes = (lL σ).2.1 ∧ k.kind = .ordinary ∧ ∀ (j fi nt1 : Nat) (nm ds : String), LSf σ j fi nt1 nm ds → ∃ g0 : Field, vm.fieldReady c fi c g0 ∧ g0.isStatic = false ∧ g0.slot = j := by
  obtain ⟨H1, H2, H3, fc, ff, eM, eC, hic, hii⟩ := H
  obtain ⟨dk', k, ok, tk, file, cf, object, iface, toy, lay, methods, target, found, hd', hk, hfile, hcf, hobj, -, hok, hlay, hms, ht, htk, hg, -, hrec, -, -, -, hitf, hpool, hmeth, hfields, hty, hres, -⟩ := Lambda.isMade_spec h
  cases hd.symm.trans hd'
  rw [hname, lD_is H1] at hcf
  cases hcf
  have hok0 : ok.instanceTypes = #[] := Array.eq_empty_of_size_eq_zero (hO object ok hobj hok)
  rw [hO object ok hobj hok, lL_is H3] at hlay
  cases hlay
  rw [hic] at ht
  obtain ⟨b, hb, hsame⟩ := hmeth 1 (lF σ) (lF_is H2 methods hms)
  obtain ⟨hn, -, hsig, hfl, x, y, hfc, hbc, -, hml, hcc, hex⟩ := Lambda.sameMethod_spec hsame
  simp only [Prod.mk.injEq] at ff
  simp only [hfc, Option.map_some, Option.some.injEq, Prod.mk.injEq] at fc
  refine ⟨k, tk, file, b, y, toy, target, hk, by rw [hrec.1, hname]; rfl, hfile, hpool.2.1, by simp [Vm.method?, hk, hb], hbc, ?_, by rw [hml]; exact fc.2, hex, ?_, by rw [hfl]; exact ff.1, by rw [hsig]; exact ff.2, ht, htk, by rw [hitf, hii], hg,
        ⟨k, hk, hres im _ (Lambda.resolvedOf_method eM.1 eM.2.1 ht htk eM.2.2 hg)⟩, ⟨k, hk, hres ic _ (Lambda.resolvedOf_class eC.1 eC.2.2 eC.2.1 ht)⟩, by rw [hty.1, hok0, Array.empty_append], hrec.2.1, fun j fi nt1 nm ds hf => ?_⟩
  · rw [hcc]
    exact ByteArray.ext fc.1
  · simp [Method.locks, Method.isSynchronized, hfl, ff.1, hasFlag, Acc.synchronized]
  · obtain ⟨f1, f2, f3, f4⟩ := hf
    obtain ⟨g0, hg0, hp0⟩ := Option.map_eq_some_iff.mp f4
    simp only [Prod.mk.injEq] at hp0
    exact ⟨g0, ⟨k, j, k, hk, hres fi _ (Lambda.resolvedOf_field f1 f2 f3), hk, hfields j _ hg0⟩, hp0.1, hp0.2⟩
