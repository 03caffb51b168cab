/-! calls of a function object through its interface: the row, and what goes on behind it -/
set_option maxRecDepth 100000
set_option maxHeartbeats 4000000
section LAM
variable {p : Program} {l : Launch} {e : Env} {R : Room} {s : State} {m : MethodId} {args : Array Value} {below : List Frame} {meth : Method} {c : Code} {H : Heap} {locs : List Loc} {cells slots : Nat} {Q : State → Prop}
variable {pc : Nat} {ls : Array Slot} {rest st0 : List Value} {A : Nat → Prop} {cc bytes : ByteArray} {nL maxL n index count mc ms : Nat} {own C : String} {y : MethodName} {ret : Option FieldType} {ws : List Cond} {rm : Room} {D : va_G} {d : Nat → ClassId} {z : ZT} {av : List Value} {a : Array Value} {w wc wr wc' tl w' : va_W} {isC isR perm : List Nat}
/-- the made method's body: one argument, no answer -/
theorem lw_d0 : decode lamCW 0 = .ok (.aload_n 1, 1) := by decide +kernel
theorem lw_d1 : decode lamCW 1 = .ok (.invokestatic 17, 3) := by decide +kernel
theorem lw_d4 : decode lamCW 4 = .ok (.return_, 1) := by decide +kernel
theorem lm_d0 : decode lamCM 0 = .ok (.aload_n 1, 1) := by decide +kernel
theorem lm_d1 : decode lamCM 1 = .ok (.iload_n 2, 1) := by decide +kernel
theorem lm_d2 : decode lamCM 2 = .ok (.invokestatic 17, 3) := by decide +kernel
theorem lm_d5 : decode lamCM 5 = .ok (.areturn, 1) := by decide +kernel
theorem lam_sam : ∀ j : Fin 7, (lamSh j.val).iface = (lamI j.val).cls ∧ (lamSh j.val).name = (lamI j.val).name ∧ (lamSh j.val).sam.toString = (lamI j.val).desc := by decide +kernel
theorem lam_par : ∀ j : Fin 7, (parseMethodDescriptor (lamI j.val).desc).map (fun d => d.parameters.length) = some (if j.val < 2 then 1 else 2) ∧ (parseMethodDescriptor (lamY j.val).desc).map (fun d => d.parameters.length) = some (if j.val < 2 then 1 else 2) := by decide +kernel
theorem lam_cls : ∀ j : Fin 7, (lamY j.val).cls = "AntennaTuner" := by decide +kernel
/-- the made method, called: it calls the method that it stands for, and hands the answer on -/
theorem lam_inner {T : State} (X : Stand p l e R s m args below meth c T locs cells slots) (hexec : p.tables.exec = Jvm.exec) {g : JFrame} (hg : g.method = m) (hsize : g.locals.size = c.maxLocals) {ig : Instr} {len : Nat} (hdg : decode c.code g.pc = .ok (ig, len))
    {j : Nat} {mk : MethodId} {methk : Method} {ck : Code} (hmk : T.vm.method? mk = some methk) (hck : methk.code = some ck) (hbytes : ck.code = lamCC j) (hml : ck.maxLocals = lamNL j) (hlk : methk.locks = false) (hpk : T.plainMethod mk) (hretk : methk.sig.returnType = lamRet j)
    {t : MethodId} {kt : Class} {metht : Method} (href : plainRef T e mk.cls 17) (hready : T.vm.methodReady mk.cls 17 t) (hkt : T.vm.classes[t.cls]? = some kt) (hmt : T.vm.method? t = some metht)
    (hpoly : signaturePolymorphic kt metht = false) (hstatic : metht.isStatic = true) (hinit : kt.init = .initialized)
    {R' : Room} {yy : MethodName} {Pc : Array Value → State → Prop} {Qc : Array Value → State → Outcome → State → Prop} {free : Addr → Prop} (hmc : mc = R'.cells) (hms : ms = R'.slots)
    (hB : ∀ (s' : State) (sa : Array Value), s'.vm = T.vm → Back l R' p e (.java g :: below) s' sa yy 3 8 (PreOf R' mc ms Pc) (PostOf Qc mc ms free))
    {b : Addr} {As : List Value} (hAs : if j < 2 then ∃ x, As = [.ref x] else ∃ x i, As = [.ref x, .int i]) (hpar : metht.sig.parameters.length = As.length) (hnm : T.methodNamed? yy = some t)
    (hP : ∀ U : State, U.heap = T.heap → U.vm = T.vm → Pc As.toArray U)
    (hv : ∀ a st v t, Qc a st (.returned v) t → (lamRet j = none → v = none) ∧ (lamRet j ≠ none → ∃ q, v = some (.ref q)))
    (hframes : R'.frames + 1 ≤ R.frames) (hlocals : 2 * g.monitorRoom + (g.stack.map fun v => v.category).sum + (ck.maxLocals + 11) + R'.locals ≤ R.locals) (hcells : cells + R'.cells ≤ R.cells) (hslots : slots + R'.slots ≤ R.slots) :
    ∃ (v : Option Value) (st₀ tt T' : State) (L : List Loc), st₀.heap = T.heap ∧ Stand p l e R s m args below meth c T' (locs ++ L) (cells + mc) (slots + ms) ∧ (∀ q ∈ L, free q.base) ∧ T'.heap = tt.heap ∧ T'.vm = tt.vm ∧ Qc As.toArray st₀ (.returned v) tt ∧
      ∀ acts, Steps p.tables e below (doInvoke e (T.setTop g) acts mk (Value.ref b :: As).toArray).1 (T'.setTop { g with pc := g.pc + len, stack := v.toList ++ g.stack }) := by
  subst hmc hms
  obtain ⟨Y₀, hin⟩ := X.into hg hsize hdg (Value.ref b :: As).toArray (R' := R') hmk hck hlk hpk hframes hlocals hcells hslots
  generalize hU : (T.setTop g).pushFrame (.java (entryFrame mk (Value.ref b :: As).toArray ck.maxLocals)) = U at Y₀ hin
  have hvm : U.vm = T.vm := by rw [← hU]; rfl
  have hheap : U.heap = T.heap := by rw [← hU]; rfl
  have hs : U.topJava?.isSome := Y₀.here.top
  have hBk := hB (T.calling g mk (Value.ref b :: As).toArray) (Value.ref b :: As).toArray rfl
  have hnmU : U.methodNamed? yy = some t := by
    have := State.methodNamed?_setVm (s := T) (vm' := U.vm) (by rw [hvm]; exact Vm.Alike.refl _) yy
    rw [hnm] at this
    exact this
  by_cases hj : j < 2
  · rw [if_pos hj] at hAs
    obtain ⟨x, rfl⟩ := hAs
    have e1 : ck.code = lamCW := by rw [hbytes, lamCC, if_pos hj]
    have e2 : ck.maxLocals = 2 := by rw [hml, lamNL, if_pos hj]
    have e3 : methk.sig.returnType = none := by rw [hretk, lamRet, if_pos hj]
    obtain ⟨v, ⟨U', l2, c2, s2⟩, Y₁, ⟨g', mk', tt, L, f1, f2, hq, h1, hL, h2, h3⟩, hst⟩ := hBk mk methk ck ⟨U, [], 0, 0⟩ { method := mk, pc := 1, locals := #[.val (.ref b), .val (.ref x)], stack := [], locked := none } (.invokestatic 17) t [Value.ref x].toArray Y₀ rfl (by rw [e2]; rfl) (by rw [e1]; exact lw_d1) (show 2 * 0 + 0 ≤ 8 from by decide) hnmU ⟨show 0 + R'.cells ≤ R'.cells by omega, show 0 + R'.slots ≤ R'.slots by omega, hP U hheap hvm⟩
    dsimp only [Pt.U, Pt.locs, Pt.cells, Pt.slots] at Y₁ f1 f2 hq h1 h2 h3 hst
    subst h1; subst h2; subst h3
    obtain rfl : v = none := (hv _ _ _ _ hq).1 (by rw [lamRet, if_pos hj])
    obtain ⟨fs, hleave, -, hended, hWe, hsame⟩ := Y₁.leave (v := none) (fun _ => rfl) hlk
    obtain ⟨T', X', hW', -, ht⟩ := X.outOf hg hdg hended hWe hsame
    have hth : T'.heap = tt.heap := by
      have := congrArg State.heap ht
      exact this.symm.trans f1
    have htv : T'.vm = tt.vm := by
      have := congrArg State.vm ht
      exact this.symm.trans f2
    refine ⟨none, _, tt, T', l2, ?_, by simpa using X', hL, hth, htv, hq, fun acts => ?_⟩
    · exact hheap
    rw [hin acts]
    rw [← ht]
    refine Steps.weaken (mid := [.java g]) ?_
    have hloc : entryFrame mk #[.ref b, .ref x] ck.maxLocals = { method := mk, pc := 0, locals := #[.val (.ref b), .val (.ref x)], stack := [], locked := none } := by rw [e2]; rfl
    show Steps p.tables e (.java g :: below) (U.setTop (entryFrame mk #[.ref b, .ref x] ck.maxLocals)) _
    rw [hloc]
    jvm_step Y₀.here [hexec, e1, lw_d0, Value.isRef]
    jvm_step Y₀.here [hexec, e1, lw_d1, invokestatic.wp_ready (e := e) (s := U) (m := t) (k := kt) (meth := metht) (args := [.ref x]) (rest := [])
      (f := { method := mk, pc := 1, locals := #[.val (.ref b), .val (.ref x)], stack := [.ref x], locked := none }) hs (by rw [← hU]; exact href) (by rw [hvm]; exact hready) (by rw [hvm]; exact hkt) (by rw [hvm]; exact hmt) hpoly hstatic hinit hpar.symm rfl]
    intro acts'
    rw [doInvoke_state]
    refine hst.trans ?_
    show Steps p.tables e (.java g :: below) (U'.setTop { method := mk, pc := 4, locals := #[.val (.ref b), .val (.ref x)], stack := [], locked := none }) _
    jvm_step Y₁.here [Y₁.here.top, hexec, e1, lw_d4, Y₁.method', e3]
    intro acts''
    rw [hleave { method := mk, pc := 4, locals := #[.val (.ref b), .val (.ref x)], stack := [], locked := none } acts'' rfl rfl rfl]
    exact Steps.refl _
  · rw [if_neg hj] at hAs
    obtain ⟨x, i, rfl⟩ := hAs
    have e1 : ck.code = lamCM := by rw [hbytes, lamCC, if_neg hj]
    have e2 : ck.maxLocals = 3 := by rw [hml, lamNL, if_neg hj]
    have e3 : methk.sig.returnType = some (.object "AntennaTuner$Setting") := by rw [hretk, lamRet, if_neg hj]
    obtain ⟨v, ⟨U', l2, c2, s2⟩, Y₁, ⟨g', mk', tt, L, f1, f2, hq, h1, hL, h2, h3⟩, hst⟩ := hBk mk methk ck ⟨U, [], 0, 0⟩ { method := mk, pc := 2, locals := #[.val (.ref b), .val (.ref x), .val (.int i)], stack := [], locked := none } (.invokestatic 17) t [Value.ref x, .int i].toArray Y₀ rfl (by rw [e2]; rfl) (by rw [e1]; exact lm_d2) (show 2 * 0 + 0 ≤ 8 from by decide) hnmU ⟨show 0 + R'.cells ≤ R'.cells by omega, show 0 + R'.slots ≤ R'.slots by omega, hP U hheap hvm⟩
    dsimp only [Pt.U, Pt.locs, Pt.cells, Pt.slots] at Y₁ f1 f2 hq h1 h2 h3 hst
    subst h1; subst h2; subst h3
    obtain ⟨q, rfl⟩ : ∃ q, v = some (.ref q) := (hv _ _ _ _ hq).2 (by rw [lamRet, if_neg hj]; exact fun h => nomatch h)
    obtain ⟨fs, hleave, -, hended, hWe, hsame⟩ := Y₁.leave (v := some (.ref q)) (fun h => by rw [e3] at h; cases h) hlk
    obtain ⟨T', X', hW', -, ht⟩ := X.outOf hg hdg hended hWe hsame
    have hth : T'.heap = tt.heap := by
      have := congrArg State.heap ht
      exact this.symm.trans f1
    have htv : T'.vm = tt.vm := by
      have := congrArg State.vm ht
      exact this.symm.trans f2
    refine ⟨some (.ref q), _, tt, T', l2, ?_, by simpa using X', hL, hth, htv, hq, fun acts => ?_⟩
    · exact hheap
    rw [hin acts]
    rw [← ht]
    refine Steps.weaken (mid := [.java g]) ?_
    have hloc : entryFrame mk #[.ref b, .ref x, .int i] ck.maxLocals = { method := mk, pc := 0, locals := #[.val (.ref b), .val (.ref x), .val (.int i)], stack := [], locked := none } := by rw [e2]; rfl
    show Steps p.tables e (.java g :: below) (U.setTop (entryFrame mk #[.ref b, .ref x, .int i] ck.maxLocals)) _
    rw [hloc]
    jvm_step Y₀.here [hexec, e1, lm_d0, Value.isRef]
    jvm_step Y₀.here [hexec, e1, lm_d1]
    jvm_step Y₀.here [hexec, e1, lm_d2, invokestatic.wp_ready (e := e) (s := U) (m := t) (k := kt) (meth := metht) (args := [.ref x, .int i]) (rest := [])
      (f := { method := mk, pc := 2, locals := #[.val (.ref b), .val (.ref x), .val (.int i)], stack := [.int i, .ref x], locked := none }) hs (by rw [← hU]; exact href) (by rw [hvm]; exact hready) (by rw [hvm]; exact hkt) (by rw [hvm]; exact hmt) hpoly hstatic hinit hpar.symm rfl]
    intro acts'
    rw [doInvoke_state]
    refine hst.trans ?_
    show Steps p.tables e (.java g :: below) (U'.setTop { method := mk, pc := 5, locals := #[.val (.ref b), .val (.ref x), .val (.int i)], stack := [.ref q], locked := none }) _
    jvm_step Y₁.here [Y₁.here.top, hexec, e1, lm_d5, Y₁.method', e3, narrow, Value.isRef]
    refine ⟨rfl, ?_⟩
    intro acts''
    rw [hleave { method := mk, pc := 5, locals := #[.val (.ref b), .val (.ref x), .val (.int i)], stack := [], locked := none } acts'' rfl rfl rfl]
    exact Steps.refl _
theorem lam_run {Pc : Array Value → State → Prop} {Qc : Array Value → State → Outcome → State → Prop} {free : Addr → Prop} {As : List Value} {g : JFrame} {b j : Nat} (S : CallFix p m c cc nL s args lw_all own) (hj : j < 7) (hL : LF j b A s s.heap) (hS : va_S A s.heap H locs)
    (hM : Met l (lamY j) (ws_ (lamY j) bytes maxL ret) rm Pc Qc mc ms free) (hlink : Cond.methodLink own index (lamI j) ∈ lw_all) (hstat : Cond.static (lamY j) ∈ lw_all) (hini : Cond.initialized "AntennaTuner" ∈ lw_all) (hcode : Cond.code (lamY j) bytes maxL ret ∈ lw_all) (hrc : rm.cells = mc) (hrs : rm.slots = ms) (hroom : rm.frames + 2 ≤ R.frames ∧ 41 + maxL + rm.locals ≤ R.locals) (hp : PreS s H Pc As)
    (hg : g.method = m) (hAs : if j < 2 then ∃ x, As = [.ref x] else ∃ x i, As = [.ref x, .int i]) (hsize : g.locals.size = nL) (hstack : g.stack = As.reverse ++ .ref b :: rest) (hW : 2 * g.monitorRoom + (rest.map fun v => v.category).sum ≤ 8) (hdg : decode cc g.pc = .ok (.invokeinterface index count, 5)) (hf : cells + mc ≤ R.cells ∧ slots + ms ≤ R.slots)
    (hv : ∀ a st v t, Qc a st (.returned v) t → (lamRet j = none → v = none) ∧ (lamRet j ≠ none → ∃ q, v = some (.ref q))) :
    va_Run5 p l e R s m args below meth c H locs cells slots mc ms g rest (Qc As.toArray) free := by
  have hG : GoodIn lw_all (ws_ (lamY j) bytes maxL ret) := lw_meth hcode
  obtain ⟨hx, hb, hml, ho, hts⟩ := S
  obtain ⟨m0, k0, i0, p0, cell, hn0, hk0, -, hmade, hcan, hcell, hvm0, hA0, hdecl0, hface0⟩ := hL
  have hdecl : (Cond.declares (lamI j)).before args s = true := va_Nw.use rfl hdecl0
  have hface : (Cond.interfaceMethod (lamI j).cls (lamI j).cls (lamI j).name (lamI j).desc).before args s = true := va_Nw.use rfl hface0
  intro T hT X
  have hcellT : T.heap[b]? = some cell := by rw [hT, hS.2.1 b (Array.getElem?_eq_some_iff.mp hcell).1 hA0]; exact hcell
  obtain ⟨kD, hkD, hnameD⟩ := className_of_methodNamed hn0
  cases hk0.symm.trans hkD
  have hnameD : k0.name = "AntennaTuner" := hnameD
  obtain ⟨kK, tk, file, methk, ckK, toy, t, hkK, hkn, hfile, hpool, hmk, hckK, hbytes, hmlK, hlk, hfl, hretk, htoy, htk, hlook, hready, hclsR⟩ := lam_made j hj hk0 hnameD hmade
  obtain ⟨r0, r, hn, hrm, hstR, hsigR⟩ := Cond.declares_spec hdecl
  obtain ⟨cL, kL, r1, hcL, hkL, hiL, hfoundL, hn1⟩ := Cond.interfaceMethod_spec hface
  cases hn.symm.trans hn1
  have hr0cls : r0.cls = cL := Option.some.inj ((findClass_of_methodNamed hn).symm.trans hcL)
  obtain ⟨hnameR, hdescR⟩ := name_of_methodNamed hn hrm
  obtain ⟨si1, si2, si3⟩ : (lamSh j).iface = (lamI j).cls ∧ (lamSh j).name = (lamI j).name ∧ (lamSh j).sam.toString = (lamI j).desc := lam_sam ⟨j, hj⟩
  obtain ⟨-, -, -, -, -, -, -, iface', -, -, -, -, found, -, -, -, -, -, hi', -, -, -, -, -, -, hfound', -, -, -, -, -, -, -, -, -, -, hsel⟩ := Lambda.isMade_spec hmade
  rw [si1] at hi'
  cases hcL.symm.trans hi'
  rw [si2, si3] at hfound'
  have hfr : found = r0 := by
    have h1 := hfoundL
    simp only [State.methodFound?, hcL, hkL, hiL, Option.bind_eq_bind, Option.bind_some] at h1
    rw [hfound'] at h1
    exact Option.some.inj h1
  subst hfr
  obtain ⟨i2, hi2, hasg, hway⟩ := State.lambdaCallable_spec hcan
  rw [si1] at hi2
  cases hcL.symm.trans hi2
  rw [si2, si3] at hway
  have hlen : ∀ sig, parseMethodDescriptor (lamI j).desc = some sig → As.length = sig.parameters.length := by
    intro sig hs
    have hq := lam_par ⟨j, hj⟩
    have hq1 : (parseMethodDescriptor (lamI j).desc).map (fun d => d.parameters.length) = some (if j < 2 then 1 else 2) := hq.1
    rw [hs] at hq1
    have hq2 := Option.some.inj hq1
    by_cases h2 : j < 2
    · rw [if_pos h2] at hAs hq2
      obtain ⟨x, rfl⟩ := hAs
      exact hq2.symm
    · rw [if_neg h2] at hAs hq2
      obtain ⟨x, i, rfl⟩ := hAs
      exact hq2.symm
  obtain ⟨vm₁, X₁, hstep₁⟩ := X.invokeinterface hx ho (hts _ hlink) hn hrm hstR (by rw [hr0cls]; exact hkL) hiL (lamI_plain j) (a := b) (cell := cell) (kcell := kK) hcellT (fun z h => by rw [hvm0] at h; cases h) hkK (by rw [hr0cls]; exact hasg)
    (m' := ⟨cell.cls, 1⟩) (meth' := methk) (by rw [Launch.admits_selectMethod X.admits]; exact hsel) hmk (by rw [hnameR, hdescR]; exact hway) (by rw [hfl]; decide) (by simp [Method.isAbstract, hfl, hasFlag, Acc.abstract])
    (g := g) hg (argsL := As) (rest := rest) (hlen _ hsigR) hstack (by rw [hb]; exact hdg)
  have hW₁ : s.WarmedH vm₁ := X₁.warmed
  obtain ⟨kD₁, hkD₁, heD₁⟩ := hW₁.alike.2.2 _ _ hk0
  have hnameD₁ : kD₁.name = "AntennaTuner" := by rw [heD₁]; exact hnameD
  obtain ⟨kK₁, tk₁, file₁, methk₁, ckK₁, toy₁, t₁, hkK₁, hkn₁, hfile₁, hpool₁, hmk₁, hckK₁, hbytes₁, hml₁, hlk₁, hfl₁, hretk₁, htoy₁, htk₁, hlook₁, hready₁, hclsR₁⟩ := lam_made j hj hkD₁ hnameD₁ (Lambda.isMade_warmer hW₁ hmade)
  -- the method that it stands for
  have hcs : (Cond.code (lamY j) bytes maxL ret).before args s = true := hts _ hcode
  have hclsY : (lamY j).cls = "AntennaTuner" := lam_cls ⟨j, hj⟩
  cases hmT : s.methodNamed? (lamY j) with
  | none => simp [Cond.before, Cond.holds, Cond.value, hmT] at hcs
  | some mT =>
  obtain ⟨methT, cT, hmethT, hcT, hbytesT, hlocT, hretT, hlocksT, -, hsigT⟩ := Cond.code_spec hmT hcs
  have hstaticT : methT.isStatic = true := Cond.static_spec hmT hmethT (hts _ hstat)
  obtain ⟨kT, hkT, hnameT⟩ := className_of_methodNamed hmT
  rw [hclsY] at hnameT
  have hfT : s.vm.findClass "AntennaTuner" = some mT.cls := by rw [← hclsY]; exact findClass_of_methodNamed hmT
  have hinitK : kT.init = .initialized := Cond.initialized_spec hfT hkT (hts _ hini)
  have hfT₁ : vm₁.findClass "AntennaTuner" = some mT.cls := by rw [hW₁.alike.findClass]; exact hfT
  cases htoy₁.symm.trans hfT₁
  have hYp : (lamY j).cls ≠ "java/lang/invoke/MethodHandle" ∧ (lamY j).cls ≠ "java/lang/invoke/VarHandle" := by rw [hclsY]; exact ⟨by decide, by decide⟩
  have ht₁ : t₁ = mT := by
    have h1 : (s.setVm vm₁).methodFound? (lamY j).cls (lamY j).name (lamY j).desc = some mT := by rw [State.methodFound?_setVm hW₁.alike]; exact State.methodFound?_of_named hmT hYp
    rw [hclsY] at h1
    simp only [State.methodFound?, State.vm_setVm, hfT₁, htk₁, Option.bind_eq_bind, Option.bind_some] at h1
    rw [hlook₁] at h1
    exact Option.some.inj h1
  subst ht₁
  have hmethT₁ : vm₁.method? t₁ = some methT := by rw [hW₁.alike.method?]; exact hmethT
  obtain ⟨kT₁, hkT₁, heT₁⟩ := hW₁.alike.2.2 _ _ hkT
  cases htk₁.symm.trans hkT₁
  have hnm : tk₁.name ≠ "java/lang/invoke/MethodHandle" ∧ tk₁.name ≠ "java/lang/invoke/VarHandle" := by
    have : tk₁.name = "AntennaTuner" := by rw [heT₁]; exact hnameT
    rw [this]; decide
  have hsp : ∀ y : Method, signaturePolymorphic tk₁ y = false := fun y => by simp [signaturePolymorphic, hnm.1, hnm.2]
  obtain ⟨bb, hmem⟩ := memberRef_ask' (e := e) (vm := vm₁) (d := cell.cls) (index := 17) hkK₁ hfile₁ (Or.inl (by rw [hpool₁]; exact (lam_e17 ⟨j, hj⟩).1)) (by rw [hpool₁]; exact (lam_e17 ⟨j, hj⟩).2.2)
  have hpk : (T.setVm vm₁).plainMethod ⟨cell.cls, 1⟩ := State.plainMethod.of_name (fun k' hk' => by cases hkK₁.symm.trans hk'; rw [hkn₁]; decide)
  have hparT : methT.sig.parameters.length = As.length := by
    have hq2 := (lam_par ⟨j, hj⟩).2
    have hq2 : (parseMethodDescriptor (lamY j).desc).map (fun d => d.parameters.length) = some (if j < 2 then 1 else 2) := hq2
    rw [hsigT] at hq2
    have hq3 := Option.some.inj hq2
    by_cases h2 : j < 2
    · rw [if_pos h2] at hAs hq3
      obtain ⟨x, rfl⟩ := hAs
      exact hq3
    · rw [if_neg h2] at hAs hq3
      obtain ⟨x, i, rfl⟩ := hAs
      exact hq3
  have hNL : lamNL j ≤ 3 := by unfold lamNL; split <;> omega
  obtain ⟨v, st₀, tt, T', L, a1, a2, a3, a4, a5, a6, a7⟩ := lam_inner (T := T.setVm vm₁) (mc := mc) (ms := ms) (b := b) (As := As) (Pc := Pc) (Qc := Qc) (free := free) (yy := lamY j) X₁ hx (g := { g with stack := rest }) hg (hsize.trans hml.symm) (by rw [hb]; exact hdg) (j := j) (mk := ⟨cell.cls, 1⟩) hmk₁ hckK₁ hbytes₁ hml₁ hlk₁ hpk hretk₁
    (t := t₁) (kt := tk₁) (metht := methT) ⟨14, _, _, bb, t₁.cls, tk₁, hmem, hclsR₁, htk₁, by simp [hsp]⟩ hready₁ htk₁ hmethT₁ (hsp _) hstaticT (by rw [heT₁]; exact hinitK) (R' := { frames := rm.frames + 1, cells := mc, slots := ms, locals := 8 + (maxL + 11) + rm.locals }) rfl rfl
    (fun s' sa hs' => back_of hM hp.1 hrc hrs (Nat.le_refl _) (Nat.le_refl _)
      (fun w hw a' U hU => pay_in hts hG w hw a' U (State.WarmedH.trans (by rw [show s'.vm = vm₁ from hs']; exact hW₁) hU))
      List.mem_cons_self
      (fun a' U hU => by rw [hclsY]; exact word_at (State.WarmedH.trans (t := s') (by rw [show s'.vm = vm₁ from hs']; exact hW₁) hU) (Or.inl (by first | rfl | simp [Cond.onTables, Cond.keeps, Cond.steady])) (hts _ hini)))
    hAs hparT (X₁.named hmT) (fun U hU hUv => hp.2 U (hU.trans hT) (by rw [hUv]; exact hW₁)) hv
    (by show rm.frames + 1 + 1 ≤ R.frames; omega) (by show 2 * g.monitorRoom + (rest.map fun v => v.category).sum + (ckK₁.maxLocals + 11) + (8 + (maxL + 11) + rm.locals) ≤ R.locals; rw [hml₁]; omega) hf.1 hf.2
  exact ⟨v, st₀, tt, T', L, a1.trans hT, a2, a3, a4, a5, a6, fun target h => hstep₁ _ fun acts => (a7 acts).trans h⟩
theorem lam_hvV {S : Type} {post : S → Prop} {B : S → State → Prop} {j : Nat} (h : j < 2) : ∀ a st v t, va_Qv post B A a st (.returned v) t → (lamRet j = none → v = none) ∧ (lamRet j ≠ none → ∃ q, v = some (.ref q)) := by
  intro a st v t hq
  obtain ⟨⟨u, e, -⟩, -⟩ := hq
  cases e
  exact ⟨fun _ => rfl, fun hn => absurd (by rw [lamRet, if_pos h]) hn⟩
theorem lam_hvR {S : Type} {post : S → Prop} {B : S → Nat → State → Prop} {j : Nat} (h : ¬ j < 2) : ∀ a st v t, va_Qr post B A a st (.returned v) t → (lamRet j = none → v = none) ∧ (lamRet j ≠ none → ∃ q, v = some (.ref q)) := by
  intro a st v t hq
  obtain ⟨⟨u, q, e, -⟩, -⟩ := hq
  cases e
  refine ⟨fun hn => ?_, fun _ => ⟨_, rfl⟩⟩
  rw [lamRet, if_neg h] at hn
  cases hn
theorem run5_v0 (hr : va_Run5 p l e R s m args below meth c H locs cells slots mc ms (F0 m pc ls st0) rest (va_Qv (fun (_ : Unit) => True) (fun _ t => Bw D (va_A wc H.size) wc' t) (va_A wc H.size) a) (va_A wc H.size)) (hP : va_P D CL w H) (hD : va_D A w) (hS : va_S A s.heap H locs) (hA : ∀ q, s.heap.size ≤ q → A q) (isC isR perm : List Nat) (hC : isC.map (fun i => w[i]?) = wc.map some) (hnC : va_nd isC = true) (hR : isR.map (fun i => w[i]?) = wr.map some) (hn : va_nd isR = true) (hdis : ∀ i ∈ isR, i ∉ isC) (hnp : va_nd perm = true) (hw : perm.map (fun i => (wr ++ wc')[i]?) = w'.map some)
    (kk : ∀ (H1 : Heap) (locs1 : List Loc), va_P D CL w' H1 → va_D A w' → va_S A s.heap H1 locs1 → W p l e R s m args below meth c H1 locs1 (cells + mc) (slots + ms) Q (F0 m (pc + 5) ls rest)) : W p l e R s m args below meth c H locs cells slots Q (F0 m pc ls st0) := by
  rw [← List.append_nil w] at hP hD hC hR
  have hF := cut_free hD hS hA (by simpa using hC) hnC
  refine va_callFv hr hS (fun q _ h => hF q h) hF (fun u t H1 locs1 ht hvm hp hB hz hk hS1 => ?_)
  obtain ⟨b1, b2⟩ := cut_join hP hD (by simpa using hC) (by simpa using hR) hn hdis hnp hw hk hF (by rw [← ht]; exact hB.1) hB.2
  rw [List.append_nil] at b1 b2
  exact kk H1 locs1 b1 b2 hS1
theorem run5_rS0 {S : Type} {r : S → Nat} {φ : S → Prop} {wc' : S → va_W} {w' : S → va_W} (hr : va_Run5 p l e R s m args below meth c H locs cells slots mc ms (F0 m pc ls st0) rest (va_Qr (fun (u : S) => φ u) (fun u a t => a = r u ∧ Bw D (va_A wc H.size) (wc' u) t) (va_A wc H.size) a) (va_A wc H.size)) (hP : va_P D CL w H) (hD : va_D A w) (hS : va_S A s.heap H locs) (hA : ∀ q, s.heap.size ≤ q → A q) (isC isR perm : List Nat) (hC : isC.map (fun i => w[i]?) = wc.map some) (hnC : va_nd isC = true) (hR : isR.map (fun i => w[i]?) = wr.map some) (hn : va_nd isR = true) (hdis : ∀ i ∈ isR, i ∉ isC) (hnp : va_nd perm = true) (hw : ∀ u, perm.map (fun i => (wr ++ wc' u)[i]?) = (w' u).map some)
    (kk : ∀ (u : S), φ u → ∀ (H1 : Heap) (locs1 : List Loc), va_P D CL (w' u) H1 → va_D A (w' u) → va_S A s.heap H1 locs1 → W p l e R s m args below meth c H1 locs1 (cells + mc) (slots + ms) Q (F0 m (pc + 5) ls (.ref (r u) :: rest))) : W p l e R s m args below meth c H locs cells slots Q (F0 m pc ls st0) := by
  rw [← List.append_nil w] at hP hD hC hR
  have hF := cut_free hD hS hA (by simpa using hC) hnC
  refine va_callFr hr hS (fun q _ h => hF q h) hF (fun u a1 t H1 locs1 ht hvm hp hB hz hk hS1 => ?_)
  obtain ⟨rfl, hB⟩ := hB
  obtain ⟨b1, b2⟩ := cut_join hP hD (by simpa using hC) (by simpa using hR) hn hdis hnp (hw u) hk hF (by rw [← ht]; exact hB.1) hB.2
  rw [List.append_nil] at b1 b2
  exact kk u hp H1 locs1 b1 b2 hS1
end LAM
