/-! BASE: one list of classes, one list of array types, one contract form; bundles of state; calls -/
set_option maxRecDepth 100000
set_option maxHeartbeats 4000000
abbrev CL : List vw_C := [(RX4, TX4, 47), (RX0, TX0, 11), (RX1, TX1, 2), (RX2, TX2, 3), (RX3, TX3, 7), (RX5, TX5, 8), (RX6, TX6, 13), (RX7, TX7, 8), (RX8, TX8, 8), (RX9, TX9, 4), (RX11, TX11, 7), (RX12, TX12, 7), (RX13, TX13, 7), (RX14, TX14, 7), (RX15, TX15, 7), (RX16, TX16, 7), (RX17, TX17, 3), (RJ2, TJ2, 3), (RJ14, TJ14, 3), (RJ4, TJ4, 4), (RJ5, TJ5, 4)]
abbrev TYS (d : Nat → ClassId) : List (ClassId × FieldType) := [(d 0, .int), (d 1, .long), (d 2, .byte), (d 3, .boolean), (d 4, .object "java/lang/Object"), (d 5, .object "AntennaTuner$Wiring"), (d 6, .object "AntennaTuner$Move")]
def nxw (w : Cond) : Bool := match w with
  | .fieldLinkNest .. => true
  | .methodLinkNest .. => true
  | .castable .. => true
  | .declares .. => true
  | .arrayOver (.object _) => true
  | _ => false
def NX (U : State) : Prop := ∀ w ∈ lw_tbl, nxw w = true → va_Nw w U
theorem NX.warm {s U : State} (hW : s.WarmedH U.vm) (h : NX s) : NX U := by
  intro w hw hn
  have h1 := h w hw hn
  unfold nxw at hn
  split at hn
  · exact va_Nw.warmF hW h1
  · exact va_Nw.warmM hW h1
  · exact va_Nw.warmC hW h1
  · exact va_Nw.warmD hW h1
  · exact va_AO.moved hW.alike h1
  · cases hn
theorem NX.same {s U : State} (hv : s.vm = U.vm) (h : NX s) : NX U := by
  intro w hw hn
  have h1 := h w hw hn
  unfold nxw at hn
  split at hn
  · exact va_Nw.same rfl hv h1
  · exact va_Nw.same rfl hv h1
  · exact va_Nw.same rfl hv h1
  · exact va_Nw.same rfl hv h1
  · exact va_AO.moved (by rw [← hv]; exact Vm.Alike.refl _) h1
  · cases hn
/-- what is known of the tables, at any state of a run -/
def KK (D : va_G) (d : Nat → ClassId) (U : State) : Prop := va_K D CL (TYS d) U ∧ NX U
theorem KK.warm {D : va_G} {d : Nat → ClassId} {s U : State} (hW : s.WarmedH U.vm) (h : KK D d s) : KK D d U := ⟨va_K.moved hW.alike h.1, h.2.warm hW⟩
theorem KK.call {D : va_G} {d : Nat → ClassId} {U : State} {g : JFrame} {mk : MethodId} {a : Array Value} (h : KK D d U) : KK D d (U.calling g mk a) := ⟨va_K.moved (u := U) (U := U.calling g mk a) (Vm.Alike.refl U.vm) h.1, NX.same (s := U) (U := U.calling g mk a) rfl h.2⟩
/-- texts of the String constants, by their places: "", coil, capacitor, transmitter, point, band -/
abbrev zlen : List Nat := [0, 4, 9, 11, 5, 4]
abbrev zbyt : List (List Int32) := [[], [99, 111, 105, 108], [99, 97, 112, 97, 99, 105, 116, 111, 114], [116, 114, 97, 110, 115, 109, 105, 116, 116, 101, 114], [112, 111, 105, 110, 116], [98, 97, 110, 100]]
abbrev zR : List (String × Nat × String × Nat) := [("AntennaTuner$Parser", 29, "", 0), ("AntennaTuner$Parser", 108, "coil", 1), ("AntennaTuner$Parser", 127, "capacitor", 2), ("AntennaTuner$Parser", 132, "transmitter", 3), ("AntennaTuner$Parser", 143, "point", 4), ("AntennaTuner$Parser", 161, "band", 5), ("AntennaTunerModel", 149, "coil", 1), ("AntennaTunerModel", 162, "capacitor", 2), ("AntennaTunerModel", 164, "transmitter", 3), ("AntennaTunerModel", 166, "point", 4), ("AntennaTunerModel", 171, "band", 5)]
def shW (im : String) : Jvm.Lambda.Shape := { iface := "AntennaTuner$Wiring", name := "apply", sam := { parameters := [.object "AntennaTuner$Circuit"], returnType := none }, captured := [], kind := 6, implClass := "AntennaTuner", implName := im, implDesc := { parameters := [.object "AntennaTuner$Circuit"], returnType := none }, implItf := false, inst := { parameters := [.object "AntennaTuner$Circuit"], returnType := none } }
def shM (im : String) : Jvm.Lambda.Shape := { iface := "AntennaTuner$Move", name := "from", sam := { parameters := [.object "AntennaTuner$Setting", .int], returnType := some (.object "AntennaTuner$Setting") }, captured := [], kind := 6, implClass := "AntennaTuner", implName := im, implDesc := { parameters := [.object "AntennaTuner$Setting", .int], returnType := some (.object "AntennaTuner$Setting") }, implItf := false, inst := { parameters := [.object "AntennaTuner$Setting", .int], returnType := some (.object "AntennaTuner$Setting") } }
def lamSh (j : Nat) : Jvm.Lambda.Shape := match j with
  | 0 => shW "capacitorFirst"
  | 1 => shW "coilFirst"
  | 2 => shM "lambda$new$0"
  | 3 => shM "lambda$new$1"
  | 4 => shM "lambda$new$2"
  | 5 => shM "lambda$new$3"
  | _ => shM "lambda$new$4"
def lamPc (j : Nat) : Nat := match j with
  | 0 => 25
  | 1 => 33
  | 2 => 49
  | 3 => 57
  | 4 => 65
  | 5 => 73
  | _ => 81
/-- the interface's method that the object j has -/
def lamI (j : Nat) : MethodName := if j < 2 then ⟨"AntennaTuner$Wiring", "apply", "(LAntennaTuner$Circuit;)V"⟩ else ⟨"AntennaTuner$Move", "from", "(LAntennaTuner$Setting;I)LAntennaTuner$Setting;"⟩
theorem lamI_plain (j : Nat) : (lamI j).cls ≠ "java/lang/invoke/MethodHandle" ∧ (lamI j).cls ≠ "java/lang/invoke/VarHandle" := by
  unfold lamI
  split <;> exact ⟨by decide, by decide⟩
theorem im_warm {x : MethodName} (hx : x.cls ≠ "java/lang/invoke/MethodHandle" ∧ x.cls ≠ "java/lang/invoke/VarHandle") {s U : State} (hW : s.WarmedH U.vm) (hd : va_Nw (.declares x) s) (h : va_Nw (.interfaceMethod x.cls x.cls x.name x.desc) s) : va_Nw (.interfaceMethod x.cls x.cls x.name x.desc) U := by
  obtain ⟨r, meth, hn, -⟩ := Cond.declares_spec hd
  exact va_tabs (A := #[]) rfl (rfl : (s.setVm U.vm).vm = U.vm) (by rw [Cond.interfaceMethod_setVm hW.alike (r := r) hn hx]; exact h)
/-- the function object of a site: its class, which the VM has made; the object itself -/
def LF (j : Nat) (a : Nat) (A : Nat → Prop) (U : State) (H : Heap) : Prop := ∃ (m : MethodId) (k : Class) (i0 p0 : Nat) (cell : Cell), U.methodNamed? yX0_init = some m ∧ U.vm.classes[m.cls]? = some k ∧ (k.callSites.find? fun y => y.1 == m.idx && y.2.1 == lamPc j) = some (i0, p0, .constant a) ∧ Lambda.isMade { classPath := fun _ => none } U.vm m.cls (lamSh j) cell.cls = true ∧ U.lambdaCallable (lamSh j) cell.cls = true ∧ H[a]? = some cell ∧ cell.vm = .none ∧ ¬ A a ∧ va_Nw (.declares (lamI j)) U ∧ va_Nw (.interfaceMethod (lamI j).cls (lamI j).cls (lamI j).name (lamI j).desc) U
theorem LF.warm {j a : Nat} {A : Nat → Prop} {s U : State} {H : Heap} (hW : s.WarmedH U.vm) (h : LF j a A s H) : LF j a A U H := by
  obtain ⟨m, k, i0, p0, cell, h1, h2, h3, h4, h5, h6, h7, h8, h9, h10⟩ := h
  obtain ⟨k', hk', he⟩ := hW.alike.2.2 _ _ h2
  refine ⟨m, k', i0, p0, cell, ?_, hk', by rw [he]; exact h3, Lambda.isMade_warmer hW h4, ?_, h6, h7, h8, va_Nw.warmD hW h9, ?_⟩
  · have := State.methodNamed?_setVm (s := s) hW.alike yX0_init
    rw [h1] at this
    exact this
  · have hA := hW.alike
    simp only [State.lambdaCallable, hA.findClass, hA.assignable, hA.superclasses, hA.declaredIn] at h5 ⊢
    exact h5
  · exact im_warm (lamI_plain j) hW h9 h10
theorem LF.same {j a : Nat} {A : Nat → Prop} {s U : State} {H : Heap} (hv : U.vm = s.vm) (h : LF j a A s H) : LF j a A U H := by
  obtain ⟨m, k, i0, p0, cell, h1, h2, h3, h4, h5, h6, h7, h8, h9, h10⟩ := h
  refine ⟨m, k, i0, p0, cell, ?_, by rw [hv]; exact h2, h3, by rw [hv]; exact h4, ?_, h6, h7, h8, va_Nw.same rfl hv.symm h9, va_Nw.same rfl hv.symm h10⟩
  · have ha : s.vm.Alike U.vm := by rw [hv]; exact Vm.Alike.refl _
    have := State.methodNamed?_setVm (s := s) ha yX0_init
    rw [h1] at this
    exact this
  · simp only [State.lambdaCallable] at h5 ⊢
    rw [hv]
    exact h5
theorem LF.kept {j a : Nat} {A : Nat → Prop} {U : State} {H H1 : Heap} (h : LF j a A U H) (hq : ∀ a : Nat, a < H.size → ¬ A a → H1[a]? = H[a]?) : LF j a A U H1 := by
  obtain ⟨m, k, i0, p0, cell, h1, h2, h3, h4, h5, h6, h7, h8, h9, h10⟩ := h
  exact ⟨m, k, i0, p0, cell, h1, h2, h3, h4, h5, by rw [hq a (Array.getElem?_eq_some_iff.mp h6).1 h8]; exact h6, h7, h8, h9, h10⟩
theorem LF.narrow {j a : Nat} {A B : Nat → Prop} {U : State} {H : Heap} (h : LF j a A U H) (hAB : ∀ q, B q → A q) : LF j a B U H := by
  obtain ⟨m, k, i0, p0, cell, h1, h2, h3, h4, h5, h6, h7, h8, h9, h10⟩ := h
  exact ⟨m, k, i0, p0, cell, h1, h2, h3, h4, h5, h6, h7, fun q => h8 (hAB a q), h9, h10⟩
/-- pairs of classes of which the one can't be cast to the other -/
abbrev ncs : List (String × String) := [(RX12, RX11), (RX12, RX13), (RX13, RX11)]
abbrev ZT : Type := (Nat → Nat) × (Nat → Nat) × (Nat → Nat)
/-- what nobody writes: constants, statics -/
def ZZ (z : ZT) (A : Nat → Prop) (U : State) (H : Heap) : Prop := va_Z "java/lang/String" "COMPACT_STRINGS" "Z" (.int 1) A U H ∧ va_Zq "java/lang/Throwable" "UNASSIGNED_STACK" "[Ljava/lang/StackTraceElement;" A U H ∧ va_Zq "java/lang/Throwable" "SUPPRESSED_SENTINEL" "Ljava/util/List;" A U H ∧ va_Zq "jdk/internal/util/Preconditions" "SIOOBE_FORMATTER" "Ljava/util/function/BiFunction;" A U H ∧ vk_S 6 zlen zbyt z.1 z.2.1 A U H ∧ (∀ q ∈ zR, vk_R q.1 q.2.1 q.2.2.1 (z.1 q.2.2.2) U) ∧ (∀ j : Nat, j < 7 → LF j (z.2.2 j) A U H) ∧ ∀ q ∈ ncs, va_Nc q.1 q.2 U
theorem ZZ.warm {z : ZT} {A : Nat → Prop} {s U : State} {H : Heap} (hW : s.WarmedH U.vm) (h : ZZ z A s H) : ZZ z A U H := ⟨h.1.moved hW.alike, h.2.1.moved hW.alike, h.2.2.1.moved hW.alike, h.2.2.2.1.moved hW.alike, h.2.2.2.2.1.moved hW.alike, fun q hq => (h.2.2.2.2.2.1 q hq).warm hW, fun j hj => (h.2.2.2.2.2.2.1 j hj).warm hW, fun q hq => va_Nc.moved hW.alike (h.2.2.2.2.2.2.2 q hq)⟩
theorem ZZ.same {z : ZT} {A : Nat → Prop} {s U : State} {H : Heap} (hv : U.vm = s.vm) (h : ZZ z A s H) : ZZ z A U H := by
  have ha : s.vm.Alike U.vm := by rw [hv]; exact Vm.Alike.refl _
  exact ⟨h.1.moved ha, h.2.1.moved ha, h.2.2.1.moved ha, h.2.2.2.1.moved ha, h.2.2.2.2.1.moved ha, fun q hq => (h.2.2.2.2.2.1 q hq).same hv, fun j hj => (h.2.2.2.2.2.2.1 j hj).same hv, fun q hq => va_Nc.moved ha (h.2.2.2.2.2.2.2 q hq)⟩
theorem ZZ.kept {z : ZT} {A : Nat → Prop} {U : State} {H H1 : Heap} (h : ZZ z A U H) (hq : ∀ a : Nat, a < H.size → ¬ A a → H1[a]? = H[a]?) : ZZ z A U H1 := ⟨h.1.kept hq, h.2.1.kept hq, h.2.2.1.kept hq, h.2.2.2.1.kept hq, h.2.2.2.2.1.kept hq, h.2.2.2.2.2.1, fun j hj => (h.2.2.2.2.2.2.1 j hj).kept hq, h.2.2.2.2.2.2.2⟩
theorem ZZ.narrow {z : ZT} {A B : Nat → Prop} {U : State} {H : Heap} (h : ZZ z A U H) (hAB : ∀ q, B q → A q) : ZZ z B U H := ⟨h.1.narrow hAB, h.2.1.narrow hAB, h.2.2.1.narrow hAB, h.2.2.2.1.narrow hAB, h.2.2.2.2.1.narrow hAB, h.2.2.2.2.2.1, fun j hj => (h.2.2.2.2.2.2.1 j hj).narrow hAB, h.2.2.2.2.2.2.2⟩
theorem ZZ.at {z : ZT} {A B : Nat → Prop} {s U : State} {H : Heap} {locs : List Loc} (h : ZZ z A s s.heap) (hS : va_S A s.heap H locs) (hAB : ∀ q, B q → A q) (hU : U.heap = H) (hW : s.WarmedH U.vm) : ZZ z B U U.heap := by
  rw [hU]
  exact ((h.kept hS.2.1).warm hW).narrow hAB
/-- a contract's start: the world w, and a pure premise -/
abbrev Pw (D : va_G) (d : Nat → ClassId) (z : ZT) (av : List Value) (sz : Nat) (w : va_W) : Array Value → State → Prop := va_Pc av (fun U => U.heap.size = sz ∧ va_P D CL w U.heap ∧ KK D d U ∧ va_D (fun _ => True) w ∧ ZZ z (va_A w sz) U U.heap)
/-- its end -/
abbrev Bw (D : va_G) (A : Nat → Prop) (w : va_W) (t : State) : Prop := va_P D CL w t.heap ∧ va_D A w
theorem Pw.blind {D : va_G} {d : Nat → ClassId} {z : ZT} {av : List Value} {sz : Nat} {w : va_W} : FrameBlind (Pw D d z av sz w) := fun a U g mk q => by
  obtain ⟨q0, q1, qP, qK, qD, qZ⟩ := q
  exact ⟨q0, q1, qP, qK.call, qD, ZZ.same (s := U) (U := U.calling g mk a) rfl qZ⟩
abbrev rmc (fr mc ms lo : Nat) : Room := { frames := fr, cells := mc, slots := ms, locals := lo }
/-- contracts: world w to worlds w' u, answer r u (S: what is not known ahead: addresses) -/
abbrev QI (D : va_G) {S : Type} (A : Nat → Prop) (r : S → Int32) (w' : S → va_W) (φ : S → Prop) := va_Qi (fun (r1 : Int32) (u : S) => r1 = r u ∧ φ u) (fun (u : S) t => Bw D A (w' u) t) A
def CI (l : Launch) (y : MethodName) (ws : List Cond) (rm : Room) (D : va_G) (d : Nat → ClassId) (z : ZT) (av : List Value) (w : va_W) (r : Int32) (w' : va_W) : Prop :=
  ∀ sz : Nat, Met l y ws rm (Pw D d z av sz w) (va_Qi (fun (r1 : Int32) (_ : Unit) => r1 = r) (fun _ t => Bw D (va_A w sz) w' t) (va_A w sz)) rm.cells rm.slots (va_A w sz)
def CJ (l : Launch) (y : MethodName) (ws : List Cond) (rm : Room) (D : va_G) (d : Nat → ClassId) (z : ZT) (av : List Value) (w : va_W) (r : Int64) (w' : va_W) : Prop :=
  ∀ sz : Nat, Met l y ws rm (Pw D d z av sz w) (va_Ql (fun (r1 : Int64) (_ : Unit) => r1 = r) (fun _ t => Bw D (va_A w sz) w' t) (va_A w sz)) rm.cells rm.slots (va_A w sz)
def CV (l : Launch) (y : MethodName) (ws : List Cond) (rm : Room) (D : va_G) (d : Nat → ClassId) (z : ZT) (av : List Value) (w : va_W) (w' : va_W) : Prop :=
  ∀ sz : Nat, Met l y ws rm (Pw D d z av sz w) (va_Qv (fun (_ : Unit) => True) (fun _ t => Bw D (va_A w sz) w' t) (va_A w sz)) rm.cells rm.slots (va_A w sz)
/-- a static method without a world -/
def SI (l : Launch) (y : MethodName) (ws : List Cond) (fr lo : Nat) (av : List Value) (r : Int32) : Prop := Met l y ws (rmc fr 0 0 lo) (va_Pc av (fun _ => True)) (vp_Si (fun x => x = r)) 0 0 (fun _ => False)
def SJ (l : Launch) (y : MethodName) (ws : List Cond) (fr lo : Nat) (av : List Value) (r : Int64) : Prop := Met l y ws (rmc fr 0 0 lo) (va_Pc av (fun _ => True)) (vp_Sl (fun x => x = r)) 0 0 (fun _ => False)
/-- what a body knows -/
def BX (p : Program) (m : MethodId) (c : Code) (cc : ByteArray) (nL : Nat) (s : State) (args : Array Value) (own : String) (meth : Method) (rt : Option FieldType) : Prop := CallFix p m c cc nL s args lw_all own ∧ meth.sig.returnType = rt ∧ meth.locks = false
section ENTRY
variable {l : Launch} {y : MethodName} {cc : ByteArray} {nL : Nat} {rt : FieldType} {rm : Room} {D : va_G} {d : Nat → ClassId} {z : ZT} {av : List Value} {w w' : va_W}
theorem CI.of {r : Int32} (hy : plainName y.cls = true) (hav : (lg_sl av).length ≤ nL) (hn : narrow rt (.int r) = .int r)
    (body : ∀ (p : Program) (e : Env) (s : State) (m : MethodId) (args : Array Value) (below : List Frame) (meth : Method) (c : Code) (A : Nat → Prop) (Q : State → Prop) (ls : Array Slot), CallFix p m c cc nL s args lw_all y.cls → KK D d s → va_P D CL w s.heap → va_D A w → ZZ z A s s.heap → va_S A s.heap s.heap [] → (∀ q, s.heap.size ≤ q → A q) → lv_has ls nL (lv_args 0 av) →
      (∀ (H : Heap) (locs : List Loc) (pc : Nat) (ls' : Array Slot), decode cc pc = .ok (.ireturn, 1) → va_P D CL w' H → va_D A w' → va_S A s.heap H locs → W p l e rm s m args below meth c H locs rm.cells rm.slots Q (F0 m pc ls' [.int r])) →
      W p l e rm s m args below meth c s.heap [] 0 0 Q (F0 m 0 ls [])) : CI l y (ws_ y cc nL (some rt)) rm D d z av w r w' := by
  intro sz
  refine Met.ofW (cc := cc) (maxL := nL) (ret := some rt) hy rfl ?_
  intro p e s m args below meth c s₁ B hml hv
  obtain ⟨rfl, hsz, hP, hK, hD0, hZ⟩ := hv
  have hts := atoms_spec (ws := ws_ y cc nL (some rt)) B.pre
  have hts : ∀ w ∈ lw_all, w.before _ s = true := fun w h => hts w (List.mem_cons_of_mem _ h)
  subst hsz
  have hD := hD0.self (sz := s.heap.size)
  have hl := lv_entry av (n := nL) hav
  rw [lg_entry_eq]
  exact body p e s m _ below meth c _ _ _ ⟨B.exec, B.bytes, hml, findClass_of_methodNamed B.named, hts⟩ hK hP hD hZ va_S.rf (fun q h => Or.inr h) hl
    (fun H locs pc ls' hdg hP hD hS => W.zret B.exec B.bytes B.returns hn (fun t ht hW => ⟨⟨r, (), rfl, rfl, by rw [ht]; exact hP, hD⟩, hS.F ht⟩) hS.2.2 hdg B.notSynchronized)
theorem CJ.of {r : Int64} (hy : plainName y.cls = true) (hav : (lg_sl av).length ≤ nL)
    (body : ∀ (p : Program) (e : Env) (s : State) (m : MethodId) (args : Array Value) (below : List Frame) (meth : Method) (c : Code) (A : Nat → Prop) (Q : State → Prop) (ls : Array Slot), CallFix p m c cc nL s args lw_all y.cls → KK D d s → va_P D CL w s.heap → va_D A w → ZZ z A s s.heap → va_S A s.heap s.heap [] → (∀ q, s.heap.size ≤ q → A q) → lv_has ls nL (lv_args 0 av) →
      (∀ (H : Heap) (locs : List Loc) (pc : Nat) (ls' : Array Slot), decode cc pc = .ok (.lreturn, 1) → va_P D CL w' H → va_D A w' → va_S A s.heap H locs → W p l e rm s m args below meth c H locs rm.cells rm.slots Q (F0 m pc ls' [.long r])) →
      W p l e rm s m args below meth c s.heap [] 0 0 Q (F0 m 0 ls [])) : CJ l y (ws_ y cc nL (some .long)) rm D d z av w r w' := by
  intro sz
  refine Met.ofW (cc := cc) (maxL := nL) (ret := some .long) hy rfl ?_
  intro p e s m args below meth c s₁ B hml hv
  obtain ⟨rfl, hsz, hP, hK, hD0, hZ⟩ := hv
  have hts := atoms_spec (ws := ws_ y cc nL (some .long)) B.pre
  have hts : ∀ w ∈ lw_all, w.before _ s = true := fun w h => hts w (List.mem_cons_of_mem _ h)
  subst hsz
  have hD := hD0.self (sz := s.heap.size)
  have hl := lv_entry av (n := nL) hav
  rw [lg_entry_eq]
  exact body p e s m _ below meth c _ _ _ ⟨B.exec, B.bytes, hml, findClass_of_methodNamed B.named, hts⟩ hK hP hD hZ va_S.rf (fun q h => Or.inr h) hl
    (fun H locs pc ls' hdg hP hD hS => W.lret B.exec B.bytes B.returns (fun t ht hW => ⟨⟨r, (), rfl, rfl, by rw [ht]; exact hP, hD⟩, hS.F ht⟩) hS.2.2 hdg B.notSynchronized)
theorem CV.of (hy : plainName y.cls = true) (hav : (lg_sl av).length ≤ nL)
    (body : ∀ (p : Program) (e : Env) (s : State) (m : MethodId) (args : Array Value) (below : List Frame) (meth : Method) (c : Code) (A : Nat → Prop) (Q : State → Prop) (ls : Array Slot), CallFix p m c cc nL s args lw_all y.cls → meth.name = y.name → KK D d s → va_P D CL w s.heap → va_D A w → ZZ z A s s.heap → va_S A s.heap s.heap [] → (∀ q, s.heap.size ≤ q → A q) → lv_has ls nL (lv_args 0 av) →
      (∀ (H : Heap) (locs : List Loc) (pc : Nat) (ls' : Array Slot), decode cc pc = .ok (.return_, 1) → va_P D CL w' H → va_D A w' → va_S A s.heap H locs → W p l e rm s m args below meth c H locs rm.cells rm.slots Q (F0 m pc ls' [])) →
      W p l e rm s m args below meth c s.heap [] 0 0 Q (F0 m 0 ls [])) : CV l y (ws_ y cc nL none) rm D d z av w w' := by
  intro sz
  refine Met.ofW (cc := cc) (maxL := nL) (ret := none) hy rfl ?_
  intro p e s m args below meth c s₁ B hml hv
  obtain ⟨rfl, hsz, hP, hK, hD0, hZ⟩ := hv
  have hts := atoms_spec (ws := ws_ y cc nL none) B.pre
  have hts : ∀ w ∈ lw_all, w.before _ s = true := fun w h => hts w (List.mem_cons_of_mem _ h)
  subst hsz
  have hD := hD0.self (sz := s.heap.size)
  have hl := lv_entry av (n := nL) hav
  rw [lg_entry_eq]
  exact body p e s m _ below meth c _ _ _ ⟨B.exec, B.bytes, hml, findClass_of_methodNamed B.named, hts⟩ (name_of_methodNamed B.named B.method).1 hK hP hD hZ va_S.rf (fun q h => Or.inr h) hl
    (fun H locs pc ls' hdg hP hD hS => W.vret B.exec B.bytes B.returns (fun t ht hW => ⟨⟨(), rfl, trivial, by rw [ht]; exact hP, hD⟩, hS.F ht⟩) hS.2.2 hdg B.notSynchronized)
theorem SI.of {fr lo : Nat} {r : Int32} (hy : plainName y.cls = true) (hav : (lg_sl av).length ≤ nL) (hn : narrow rt (.int r) = .int r)
    (body : ∀ (p : Program) (e : Env) (s : State) (m : MethodId) (args : Array Value) (below : List Frame) (meth : Method) (c : Code) (Q : State → Prop) (ls : Array Slot), CallFix p m c cc nL s args lw_all y.cls → lv_has ls nL (lv_args 0 av) →
      (∀ (pc : Nat) (ls' : Array Slot), decode cc pc = .ok (.ireturn, 1) → W p l e (rmc fr 0 0 lo) s m args below meth c s.heap [] 0 0 Q (F0 m pc ls' [.int r])) →
      W p l e (rmc fr 0 0 lo) s m args below meth c s.heap [] 0 0 Q (F0 m 0 ls [])) : SI l y (ws_ y cc nL (some rt)) fr lo av r := by
  refine Met.ofW (cc := cc) (maxL := nL) (ret := some rt) hy rfl ?_
  intro p e s m args below meth c s₁ B hml hv
  obtain ⟨rfl, -⟩ := hv
  have hts := atoms_spec (ws := ws_ y cc nL (some rt)) B.pre
  have hts : ∀ w ∈ lw_all, w.before _ s = true := fun w h => hts w (List.mem_cons_of_mem _ h)
  have hl := lv_entry av (n := nL) hav
  rw [lg_entry_eq]
  exact body p e s m _ below meth c _ _ ⟨B.exec, B.bytes, hml, findClass_of_methodNamed B.named, hts⟩ hl
    (fun pc ls' hdg => W.zret B.exec B.bytes B.returns hn (fun t ht hW => ⟨r, rfl, rfl, ht⟩) (fun q h => by cases h) hdg B.notSynchronized)
theorem SJ.of {fr lo : Nat} {r : Int64} (hy : plainName y.cls = true) (hav : (lg_sl av).length ≤ nL)
    (body : ∀ (p : Program) (e : Env) (s : State) (m : MethodId) (args : Array Value) (below : List Frame) (meth : Method) (c : Code) (Q : State → Prop) (ls : Array Slot), CallFix p m c cc nL s args lw_all y.cls → lv_has ls nL (lv_args 0 av) →
      (∀ (pc : Nat) (ls' : Array Slot), decode cc pc = .ok (.lreturn, 1) → W p l e (rmc fr 0 0 lo) s m args below meth c s.heap [] 0 0 Q (F0 m pc ls' [.long r])) →
      W p l e (rmc fr 0 0 lo) s m args below meth c s.heap [] 0 0 Q (F0 m 0 ls [])) : SJ l y (ws_ y cc nL (some .long)) fr lo av r := by
  refine Met.ofW (cc := cc) (maxL := nL) (ret := some .long) hy rfl ?_
  intro p e s m args below meth c s₁ B hml hv
  obtain ⟨rfl, -⟩ := hv
  have hts := atoms_spec (ws := ws_ y cc nL (some .long)) B.pre
  have hts : ∀ w ∈ lw_all, w.before _ s = true := fun w h => hts w (List.mem_cons_of_mem _ h)
  have hl := lv_entry av (n := nL) hav
  rw [lg_entry_eq]
  exact body p e s m _ below meth c _ _ ⟨B.exec, B.bytes, hml, findClass_of_methodNamed B.named, hts⟩ hl
    (fun pc ls' hdg => W.lret B.exec B.bytes B.returns (fun t ht hW => ⟨r, rfl, rfl, ht⟩) (fun q h => by cases h) hdg B.notSynchronized)
end ENTRY
section CALLS
variable {p : Program} {l : Launch} {e : Env} {R : Room} {s : State} {m : MethodId} {args : Array Value} {below : List Frame} {meth : Method} {c : Code} {H : Heap} {locs : List Loc} {cells slots : Nat} {Q : State → Prop}
variable {pc : Nat} {ls : Array Slot} {rest st0 : List Value} {A : Nat → Prop} {cc bytes : ByteArray} {nL maxL n index : Nat} {own C : String} {y : MethodName} {ret : Option FieldType} {ws : List Cond} {rm : Room} {D : va_G} {d : Nat → ClassId} {z : ZT} {av : List Value} {w w' : va_W} {o ci q0 : Nat} {fs : List Value} {T : u_T} {N : Nat}
theorem va_freeAll {H0 : Heap} {A0 : Nat → Prop} {ws : va_W} (hD : va_D A0 ws) (hS : va_S A0 H0 H locs) (hA : ∀ q, H0.size ≤ q → A0 q) : ∀ q, va_A ws H.size q → A0 q := by
  intro q h
  rcases h with ⟨k, e, h⟩ | h
  · exact hD.2 k (q, e) h
  · exact hA q (Nat.le_trans hS.1 h)
theorem Pw.at {U : State} (hK : KK D d s) (hP : va_P D CL w H) (hD : va_D A w) (hZ : ZZ z A s s.heap) (hS : va_S A s.heap H locs) (hA : ∀ q, s.heap.size ≤ q → A q) (hU : U.heap = H) (hW : s.WarmedH U.vm) : Pw D d z av H.size w av.toArray U := ⟨rfl, by rw [hU], by rw [hU]; exact hP, hK.warm hW, hD.weaken (fun _ _ _ _ => trivial), hZ.at hS (va_freeAll hD hS hA) hU hW⟩
/-- calls that take the whole world along -/
theorem ci_call {r : Int32} (S : CallFix p m c cc nL s args lw_all own) (hK : KK D d s) (hP : va_P D CL w H) (hD : va_D A w) (hZ : ZZ z A s s.heap) (hS : va_S A s.heap H locs) (hA : ∀ q, s.heap.size ≤ q → A q) (hM : CI l y ws rm D d z (.ref o :: av) w r w') (cw : CallW R s args own C index y bytes maxL ret ws rm rm.cells rm.slots n) (hc : CL[ci]? = some (C, T, N)) (he : w[q0]? = some (o, .inr (ci, fs))) (hn : av.length = n) (hsz : ls.size = nL) (hst : st0 = av.reverse ++ .ref o :: rest) (hW : (rest.map fun v => v.category).sum ≤ 8) (hf : cells + rm.cells ≤ R.cells ∧ slots + rm.slots ≤ R.slots) (hdg : decode cc pc = .ok (.invokevirtual index, 3))
    (kk : ∀ (H1 : Heap) (locs1 : List Loc), va_P D CL w' H1 → va_D A w' → va_S A s.heap H1 locs1 → W p l e R s m args below meth c H1 locs1 (cells + rm.cells) (slots + rm.slots) Q (F0 m (pc + 3) ls (.int r :: rest))) : W p l e R s m args below meth c H locs cells slots Q (F0 m pc ls st0) := by
  have hF := va_freeAll hD hS hA
  refine va_calli (va_runV (As := av) (rest := rest) S (hM H.size) cw ⟨Pw.blind, va_recv hK.1 hP hc he, fun U hU hW => Pw.at hK hP hD hZ hS hA hU hW⟩ rfl hn hsz hst (lv_room hW) hdg hf) hS (fun q _ h => hF q h) hF (fun r1 u t H1 locs1 ht hvm hw hB hz hk hS1 => ?_)
  subst hw
  exact kk H1 locs1 (by rw [← ht]; exact hB.1) (hB.2.weaken (fun _ q _ h => hF q.1 h)) hS1
theorem cj_call {r : Int64} (S : CallFix p m c cc nL s args lw_all own) (hK : KK D d s) (hP : va_P D CL w H) (hD : va_D A w) (hZ : ZZ z A s s.heap) (hS : va_S A s.heap H locs) (hA : ∀ q, s.heap.size ≤ q → A q) (hM : CJ l y ws rm D d z (.ref o :: av) w r w') (cw : CallW R s args own C index y bytes maxL ret ws rm rm.cells rm.slots n) (hc : CL[ci]? = some (C, T, N)) (he : w[q0]? = some (o, .inr (ci, fs))) (hn : av.length = n) (hsz : ls.size = nL) (hst : st0 = av.reverse ++ .ref o :: rest) (hW : (rest.map fun v => v.category).sum ≤ 8) (hf : cells + rm.cells ≤ R.cells ∧ slots + rm.slots ≤ R.slots) (hdg : decode cc pc = .ok (.invokevirtual index, 3))
    (kk : ∀ (H1 : Heap) (locs1 : List Loc), va_P D CL w' H1 → va_D A w' → va_S A s.heap H1 locs1 → W p l e R s m args below meth c H1 locs1 (cells + rm.cells) (slots + rm.slots) Q (F0 m (pc + 3) ls (.long r :: rest))) : W p l e R s m args below meth c H locs cells slots Q (F0 m pc ls st0) := by
  have hF := va_freeAll hD hS hA
  refine va_calll (va_runV (As := av) (rest := rest) S (hM H.size) cw ⟨Pw.blind, va_recv hK.1 hP hc he, fun U hU hW => Pw.at hK hP hD hZ hS hA hU hW⟩ rfl hn hsz hst (lv_room hW) hdg hf) hS (fun q _ h => hF q h) hF (fun r1 u t H1 locs1 ht hvm hw hB hz hk hS1 => ?_)
  subst hw
  exact kk H1 locs1 (by rw [← ht]; exact hB.1) (hB.2.weaken (fun _ q _ h => hF q.1 h)) hS1
theorem cv_call (S : CallFix p m c cc nL s args lw_all own) (hK : KK D d s) (hP : va_P D CL w H) (hD : va_D A w) (hZ : ZZ z A s s.heap) (hS : va_S A s.heap H locs) (hA : ∀ q, s.heap.size ≤ q → A q) (hM : CV l y ws rm D d z (.ref o :: av) w w') (cw : CallW R s args own C index y bytes maxL ret ws rm rm.cells rm.slots n) (hc : CL[ci]? = some (C, T, N)) (he : w[q0]? = some (o, .inr (ci, fs))) (hn : av.length = n) (hsz : ls.size = nL) (hst : st0 = av.reverse ++ .ref o :: rest) (hW : (rest.map fun v => v.category).sum ≤ 8) (hf : cells + rm.cells ≤ R.cells ∧ slots + rm.slots ≤ R.slots) (hdg : decode cc pc = .ok (.invokevirtual index, 3))
    (kk : ∀ (H1 : Heap) (locs1 : List Loc), va_P D CL w' H1 → va_D A w' → va_S A s.heap H1 locs1 → W p l e R s m args below meth c H1 locs1 (cells + rm.cells) (slots + rm.slots) Q (F0 m (pc + 3) ls rest)) : W p l e R s m args below meth c H locs cells slots Q (F0 m pc ls st0) := by
  have hF := va_freeAll hD hS hA
  refine va_callv (va_runV (As := av) (rest := rest) S (hM H.size) cw ⟨Pw.blind, va_recv hK.1 hP hc he, fun U hU hW => Pw.at hK hP hD hZ hS hA hU hW⟩ rfl hn hsz hst (lv_room hW) hdg hf) hS (fun q _ h => hF q h) hF (fun u t H1 locs1 ht hvm hw hB hz hk hS1 => ?_)
  exact kk H1 locs1 (by rw [← ht]; exact hB.1) (hB.2.weaken (fun _ q _ h => hF q.1 h)) hS1
/-- static, no world -/
theorem si_call {fr lo : Nat} {r : Int32} (S : CallFix p m c cc nL s args lw_all own) (hM : SI l y ws fr lo av r) (cw : CallB R s args own index y bytes maxL ret ws (rmc fr 0 0 lo) 0 0 n ∧ (Cond.static y).before args s = true) (hn : av.length = n) (hsz : ls.size = nL) (hst : st0 = av.reverse ++ rest) (hW : (rest.map fun v => v.category).sum ≤ 8) (hf : cells ≤ R.cells ∧ slots ≤ R.slots) (hdg : decode cc pc = .ok (.invokestatic index, 3))
    (kk : W p l e R s m args below meth c H locs cells slots Q (F0 m (pc + 3) ls (.int r :: rest))) : W p l e R s m args below meth c H locs cells slots Q (F0 m pc ls st0) :=
  vp_callSi (va_runS (As := av) (rest := rest) S hM cw ⟨fun a U g mk q => q, fun U hU hW => ⟨rfl, trivial⟩⟩ rfl hn hsz hst (lv_room hW) hdg hf).run (fun r1 h => by subst h; exact kk)
theorem sj_call {fr lo : Nat} {r : Int64} (S : CallFix p m c cc nL s args lw_all own) (hM : SJ l y ws fr lo av r) (cw : CallB R s args own index y bytes maxL ret ws (rmc fr 0 0 lo) 0 0 n ∧ (Cond.static y).before args s = true) (hn : av.length = n) (hsz : ls.size = nL) (hst : st0 = av.reverse ++ rest) (hW : (rest.map fun v => v.category).sum ≤ 8) (hf : cells ≤ R.cells ∧ slots ≤ R.slots) (hdg : decode cc pc = .ok (.invokestatic index, 3))
    (kk : W p l e R s m args below meth c H locs cells slots Q (F0 m (pc + 3) ls (.long r :: rest))) : W p l e R s m args below meth c H locs cells slots Q (F0 m pc ls st0) :=
  vp_callSl (va_runS (As := av) (rest := rest) S hM cw ⟨fun a U g mk q => q, fun U hU hW => ⟨rfl, trivial⟩⟩ rfl hn hsz hst (lv_room hW) hdg hf).run (fun r1 h => by subst h; exact kk)
/-- a put, the new world named -/
theorem g_put (hx : p.tables.exec = Jvm.exec) (hb : c.code = cc) (hts : ∀ w ∈ lw_all, w.before args s = true) (hown : s.vm.findClass own = some m.cls) (hK : KK D d s) (hP : va_P D CL w H) (hD : va_D A w) (hS : va_S A s.heap H locs) (hin : ∀ w ∈ u_ws C T N, w ∈ lw_all) (ty0 : Nat → FieldType) (hty : ∀ k, k < N → parseFieldDescriptor (T k).2.2.1 = some (ty0 k)) (hnm : ∀ a, a < N → ∀ b, b < N → a ≠ b → (T a).2.1 ≠ (T b).2.1) (q0 : Nat) (he : w[q0]? = some (o, .inr (ci, fs))) (hc : CL[ci]? = some (C, T, N)) (k : Nat) (hk : k < N) {ref : String} (hlink : Cond.fieldLink own index ref (T k).2.1 (T k).2.2.1 ∈ lw_all) (hsame : ∀ x, s.fieldFound? (T k).1 (T k).2.1 (T k).2.2.1 = some x → s.fieldFound? ref (T k).2.1 (T k).2.2.1 = some x) (hfin : (T k).2.2.2 = false) {ty : FieldType} {v : Value} (hd : ty0 k = ty) (hn : narrow ty v = v) (hfit : fits ty v = true) (hl : k < fs.length)
    (hset : w.set q0 (o, .inr (ci, fs.set k v)) = w') (hdg : decode cc pc = .ok (.putfield index, 3)) (kk : ∀ (H1 : Heap) (locs1 : List Loc), va_P D CL w' H1 → va_D A w' → va_S A s.heap H1 locs1 → W p l e R s m args below meth c H1 locs1 cells slots Q (F0 m (pc + 3) ls rest)) : W p l e R s m args below meth c H locs cells slots Q (F0 m pc ls (v :: .ref o :: rest)) := by
  subst hset
  exact va_put hx hb hts hin ty0 hty hnm hown hK.1 hP hD hS q0 he hc k hk (hts _ hlink) hsame hfin (by rw [hty k hk, hd]) hn hfit hl hdg kk
theorem g_get (hx : p.tables.exec = Jvm.exec) (hb : c.code = cc) (hts : ∀ w ∈ lw_all, w.before args s = true) (hown : s.vm.findClass own = some m.cls) (hK : KK D d s) (hP : va_P D CL w H) (hin : ∀ w ∈ u_ws C T N, w ∈ lw_all) (q0 : Nat) (he : w[q0]? = some (o, .inr (ci, fs))) (hc : CL[ci]? = some (C, T, N)) (k : Nat) (hk : k < N) {ref : String} (hlink : Cond.fieldLink own index ref (T k).2.1 (T k).2.2.1 ∈ lw_all) (hsame : ∀ x, s.fieldFound? (T k).1 (T k).2.1 (T k).2.2.1 = some x → s.fieldFound? ref (T k).2.1 (T k).2.2.1 = some x) {v : Value} (hv : fs[k]? = some v) (hdg : decode cc pc = .ok (.getfield index, 3))
    (kk : W p l e R s m args below meth c H locs cells slots Q (F0 m (pc + 3) ls (v :: rest))) : W p l e R s m args below meth c H locs cells slots Q (F0 m pc ls (.ref o :: rest)) :=
  va_get hx hb hts hin hown hK.1 hP q0 he hc k hk (hts _ hlink) hsame hv hdg kk
theorem g_iald (hx : p.tables.exec = Jvm.exec) (hb : c.code = cc) (hK : KK D d s) (hP : va_P D CL w H) (q0 : Nat) {n : Nat} {f : Nat → Int32} (ha : w[q0]? = some (o, .inl (d 0, n, .inl f))) {i : Int32} (hin : vp_in i n) (hdg : decode cc pc = .ok (.iaload, 1))
    (kk : W p l e R s m args below meth c H locs cells slots Q (F0 m (pc + 1) ls (.int (f i.toNatClampNeg) :: rest))) : W p l e R s m args below meth c H locs cells slots Q (F0 m pc ls (.int i :: .ref o :: rest)) :=
  va_iald hx hb hK.1 hP q0 0 ha rfl hin hdg kk
theorem g_iast (hx : p.tables.exec = Jvm.exec) (hb : c.code = cc) (hK : KK D d s) (hP : va_P D CL w H) (hD : va_D A w) (hS : va_S A s.heap H locs) (q0 : Nat) {n : Nat} {f : Nat → Int32} (ha : w[q0]? = some (o, .inl (d 0, n, .inl f))) {i x : Int32} (hin : vp_in i n) (hset : w.set q0 (o, .inl (d 0, n, .inl (upd f i.toNatClampNeg x))) = w') (hdg : decode cc pc = .ok (.iastore, 1))
    (kk : ∀ (H1 : Heap) (locs1 : List Loc), va_P D CL w' H1 → va_D A w' → va_S A s.heap H1 locs1 → W p l e R s m args below meth c H1 locs1 cells slots Q (F0 m (pc + 1) ls rest)) : W p l e R s m args below meth c H locs cells slots Q (F0 m pc ls (.int x :: .int i :: .ref o :: rest)) := by
  subst hset
  exact va_iast hx hb hK.1 hP hD hS q0 0 ha rfl hin hdg kk
end CALLS
/-! pure pieces of the extracted functions -/
def ga {α : Type} (b : Prop) [Decidable b] (x : Option α) : Option α := if b then x else none
theorem ga_some {α : Type} {b : Prop} [Decidable b] {x : Option α} {y : α} (h : ga b x = some y) : b ∧ x = some y := by
  unfold ga at h
  split at h
  · exact ⟨by assumption, h⟩
  · cases h
def nm {α β : Type} (e : α) (k : α → β) : β := k e
theorem nm_some {α β : Type} {e : α} {k : α → β} {z : β} (h : nm e k = z) (v : α) (hv : v = e) : k v = z := by subst hv; exact h
def b1 {α β : Type} (x : Option α) (k : α → Option β) : Option β := x.bind k
theorem b1_some {α β : Type} {x : Option α} {k : α → Option β} {z : β} (h : b1 x k = some z) : ∃ q, x = some q ∧ k q = some z := Option.bind_eq_some_iff.mp h
def b2 {α β γ : Type} (x : Option (α × β)) (k : α → β → Option γ) : Option γ := x.bind fun q => k q.1 q.2
theorem b2_some {α β γ : Type} {x : Option (α × β)} {k : α → β → Option γ} {z : γ} (h : b2 x k = some z) : ∃ q1 q2, x = some (q1, q2) ∧ k q1 q2 = some z := by
  obtain ⟨⟨q1, q2⟩, h1, h2⟩ := Option.bind_eq_some_iff.mp h
  exact ⟨q1, q2, h1, h2⟩
theorem it_t {α : Type} {c : Prop} [Decidable c] {x y : α} {z : α} (h : (if c then x else y) = z) (hc : c) : x = z := by rwa [if_pos hc] at h
theorem it_f {α : Type} {c : Prop} [Decidable c] {x y : α} {z : α} (h : (if c then x else y) = z) (hc : ¬ c) : y = z := by rwa [if_neg hc] at h
theorem so_1 {α : Type} {x y : α} (h : some x = some y) : x = y := Option.some.inj h
theorem so_2 {α β : Type} {x x' : α} {y y' : β} (h : some (x, y) = some (x', y')) : x = x' ∧ y = y' := by cases h; exact ⟨rfl, rfl⟩
/-- a boolean as an int -/
def bi (b : Bool) : Int32 := if b = true then 1 else 0
theorem bi_e0 {b : Bool} (h : bi b = 0) : ¬ b = true := by cases b; · simp
                                                           · exact absurd h (by decide)
theorem bi_n0 {b : Bool} (h : ¬ bi b = 0) : b = true := by cases b; · exact absurd rfl h
                                                           · rfl
theorem bi_nar (b : Bool) : narrow .boolean (.int (bi b)) = .int (bi b) := by cases b <;> decide
theorem bi_1 : (1 : Int32) = bi true := rfl
theorem bi_0 : (0 : Int32) = bi false := rfl
abbrev ix (i : Int32) (n : Nat) : Prop := 0 ≤ i.toInt ∧ i.toInt < (n : Int)
theorem ix_in {i : Int32} {n : Nat} (h : ix i n) : vp_in i n := vp_in_iff.mpr h
