/-! the classes that the VM makes for the function objects -/
set_option maxRecDepth 100000
set_option maxHeartbeats 4000000
def lamY (j : Nat) : MethodName := match j with
  | 0 => ⟨"AntennaTuner", "capacitorFirst", "(LAntennaTuner$Circuit;)V"⟩
  | 1 => ⟨"AntennaTuner", "coilFirst", "(LAntennaTuner$Circuit;)V"⟩
  | 2 => ⟨"AntennaTuner", "lambda$new$0", "(LAntennaTuner$Setting;I)LAntennaTuner$Setting;"⟩
  | 3 => ⟨"AntennaTuner", "lambda$new$1", "(LAntennaTuner$Setting;I)LAntennaTuner$Setting;"⟩
  | 4 => ⟨"AntennaTuner", "lambda$new$2", "(LAntennaTuner$Setting;I)LAntennaTuner$Setting;"⟩
  | 5 => ⟨"AntennaTuner", "lambda$new$3", "(LAntennaTuner$Setting;I)LAntennaTuner$Setting;"⟩
  | _ => ⟨"AntennaTuner", "lambda$new$4", "(LAntennaTuner$Setting;I)LAntennaTuner$Setting;"⟩
def lamD (j : Nat) : ClassFile := ((lamSh j).file "AntennaTuner").getD { minorVersion := 0, majorVersion := 0, constantPool := #[], accessFlags := 0, thisClass := 0, superClass := 0, interfaces := #[], fields := #[], methods := #[], attributes := #[] }
def lamF (j : Nat) : Method := ((layoutMethods (lamD j)).bind (·[1]?)).getD default
abbrev lamCW : ByteArray := ⟨#[0x2b, 0xb8, 0x00, 0x11, 0xb1]⟩
abbrev lamCM : ByteArray := ⟨#[0x2b, 0x1c, 0xb8, 0x00, 0x11, 0xb0]⟩
theorem lam_file : ∀ j : Fin 7, ((lamSh j.val).file "AntennaTuner").isSome = true := by decide +kernel
theorem lam_lay : ∀ j : Fin 7, (layoutMethods (lamD j.val)).isSome = true ∧ ((layoutMethods (lamD j.val)).bind (·[1]?)).isSome = true := by decide +kernel
theorem lam_code0 : ∀ j : Fin 2, ((lamF j.val).code.map fun c => (c.code.data, c.maxLocals)) = some (lamCW.data, 2) := by decide +kernel
theorem lam_code2 : ∀ j : Fin 7, 2 ≤ j.val → ((lamF j.val).code.map fun c => (c.code.data, c.maxLocals)) = some (lamCM.data, 3) := by decide +kernel
theorem lam_flags : ∀ j : Fin 7, ((lamF j.val).accessFlags, (lamF j.val).name, (lamF j.val).sig.returnType) = (0x0001, (lamI j.val).name, if j.val < 2 then none else some (FieldType.object "AntennaTuner$Setting")) := by decide +kernel
theorem lam_e17 : ∀ j : Fin 7, (lamD j.val).constantPool[17]? = some (.methodref 14 16) ∧ (lamD j.val).constantPool.className? 14 = some "AntennaTuner" ∧ (lamD j.val).constantPool.nameAndType? 16 = some ((lamY j.val).name, (lamY j.val).desc) := by decide +kernel
theorem lam_e14 : ∀ j : Fin 7, ∃ n, n = 13 ∧ (lamD j.val).constantPool[14]? = some (.class_ n) ∧ (lamD j.val).constantPool.string? n = some "AntennaTuner" ∧ 14 ≠ (lamD j.val).thisClass := by
  intro j
  refine ⟨13, rfl, ?_⟩
  revert j
  decide +kernel
def lamRet (j : Nat) : Option FieldType := if j < 2 then none else some (.object "AntennaTuner$Setting")
def lamCC (j : Nat) : ByteArray := if j < 2 then lamCW else lamCM
def lamNL (j : Nat) : Nat := if j < 2 then 2 else 3
theorem lam_code : ∀ j : Fin 7, ((lamF j.val).code.map fun c => (c.code.data, c.maxLocals)) = some ((lamCC j.val).data, lamNL j.val) := by decide +kernel
theorem lam_impl : ∀ j : Fin 7, (lamSh j.val).implName = (lamY j.val).name ∧ (lamSh j.val).implDesc.toString = (lamY j.val).desc ∧ (lamSh j.val).implClass = "AntennaTuner" := by decide +kernel
theorem lam_made {vm : Vm} {d c : ClassId} {dk : Class} (j : Nat) (hj : j < 7) (hd : vm.classes[d]? = some dk) (hname : dk.name = "AntennaTuner") (h : Lambda.isMade { classPath := fun _ => none } vm d (lamSh j) c = true) :
    ∃ (k tk : Class) (file : ClassFile) (methk : Method) (ck : Code) (toy : ClassId) (t : MethodId),
      vm.classes[c]? = some k ∧ k.name = "AntennaTuner$$Lambda" ∧ k.cf = some file ∧ file.constantPool = (lamD j).constantPool ∧
      vm.method? ⟨c, 1⟩ = some methk ∧ methk.code = some ck ∧ ck.code = lamCC j ∧ ck.maxLocals = lamNL j ∧ methk.locks = false ∧ methk.accessFlags = 0x0001 ∧ methk.sig.returnType = lamRet j ∧
      vm.findClass "AntennaTuner" = some toy ∧ vm.classes[toy]? = some tk ∧ ((methodIn toy (lamY j).name (lamY j).desc tk.isInterface none).ask { classPath := fun _ => none } vm).1 = .ok t ∧
      vm.methodReady c 17 t ∧ vm.classReady c 14 toy := by
  obtain ⟨dk', k, ok, tk, file, cf, object, iface, toy, lay, methods, target, found, hd', hk, hfile, hcf, -, -, -, -, hms, ht, htk, hg, -, hrec, -, -, -, -, hpool, hmeth, -, -, hres, -⟩ := Lambda.isMade_spec h
  cases hd.symm.trans hd'
  have hfi : (lamSh j).file "AntennaTuner" = some (lamD j) := by
    obtain ⟨x, hx⟩ := Option.isSome_iff_exists.mp (lam_file ⟨j, hj⟩)
    have hx' : (lamSh j).file "AntennaTuner" = some x := hx
    rw [lamD, hx']
    rfl
  rw [hname, hfi] at hcf
  cases hcf
  have h2 : methods[1]? = some (lamF j) := by
    obtain ⟨x, hx⟩ := Option.isSome_iff_exists.mp (lam_lay ⟨j, hj⟩).2
    have hx' : (layoutMethods (lamD j)).bind (·[1]?) = some x := hx
    rw [lamF, hx']
    rw [hms] at hx'
    exact hx'
  obtain ⟨b, hb, hsame⟩ := hmeth 1 (lamF j) h2
  simp only [Lambda.sameMethod, Bool.and_eq_true, decide_eq_true_eq] at hsame
  obtain ⟨⟨hn, -, hsig, hfl⟩, hcode⟩ := hsame
  have fc : ((lamF j).code.map fun c => (c.code.data, c.maxLocals)) = some ((lamCC j).data, lamNL j) := lam_code ⟨j, hj⟩
  have ff : ((lamF j).accessFlags, (lamF j).name, (lamF j).sig.returnType) = (0x0001, (lamI j).name, lamRet j) := lam_flags ⟨j, hj⟩
  have e17 := lam_e17 ⟨j, hj⟩
  obtain ⟨n, -, h14, hs14, hne⟩ := lam_e14 ⟨j, hj⟩
  obtain ⟨i1, i2, i3⟩ := lam_impl ⟨j, hj⟩
  have i1 : (lamSh j).implName = (lamY j).name := i1
  have i2 : (lamSh j).implDesc.toString = (lamY j).desc := i2
  have i3 : (lamSh j).implClass = "AntennaTuner" := i3
  rw [i3] at ht
  rw [i1, i2] at hg
  simp only [Prod.mk.injEq] at ff
  cases hfc : (lamF j).code with
  | none => rw [hfc] at fc; cases fc
  | some x =>
    cases hbc : b.code with
    | none => simp [hfc, hbc] at hcode
    | some y =>
      simp only [hfc, hbc, Bool.and_eq_true, decide_eq_true_eq] at hcode
      simp only [hfc, Option.map_some, Option.some.injEq, Prod.mk.injEq] at fc
      refine ⟨k, tk, file, b, y, toy, target, hk, by rw [hrec.1, hname]; rfl, hfile, hpool.2.1, by simp [Vm.method?, hk, hb], hbc, ?_, by rw [← hcode.1.1.1.1.2.1]; exact fc.2, ?_, by rw [← hfl]; exact ff.1, by rw [← hsig]; exact ff.2.2, ht, htk, hg,
        ⟨k, hk, hres 17 _ (Lambda.resolvedOf_method e17.1 e17.2.1 ht htk e17.2.2 hg)⟩, ⟨k, hk, hres 14 _ (Lambda.resolvedOf_class h14 hne hs14 ht)⟩⟩
      · rw [← hcode.1.1.1.1.2.2]
        exact ByteArray.ext fc.1
      · simp [Method.locks, Method.isSynchronized, ← hfl, ff.1, hasFlag, Acc.synchronized]
