/-! methods with handlers; methods that throw: contracts and entries; calls that may throw -/
set_option maxRecDepth 100000
set_option maxHeartbeats 4000000
/-- the name of a class of the list -/
def exN (c : Nat) : String := match CL[c]? with
  | some q => q.1
  | none => ""
/-- what a method that throws gives: the class, the object, the state; or its answer -/
abbrev XR (R T : Type) : Type := (Nat × Nat × T) ⊕ (R × T)
/-- where the object q9 has been thrown -/
abbrev BXq {S' : Type} (D : va_G) (A : Nat → Prop) (ex : S' → Nat × Nat) (wx : S' → va_W) : Addr → String → S' → State → Prop := fun q E u t => q = (ex u).2 ∧ E = exN (ex u).1 ∧ (∃ fs, (q, (.inr ((ex u).1, fs) : va_E)) ∈ wx u) ∧ Bw D A (wx u) t
def CIX {S S' : Type} (l : Launch) (y : MethodName) (ws : List Cond) (rm : Room) (D : va_G) (d : Nat → ClassId) (z : ZT) (av : List Value) (w : va_W) (r : S → Int32) (w' : S → va_W) (φ : S → Prop) (ex : S' → Nat × Nat) (wx : S' → va_W) (ψ : S' → Prop) : Prop :=
  ∀ sz : Nat, vx_Met l y ws rm (Pw D d z av sz w) (va_Qi (fun (r1 : Int32) (u : S) => r1 = r u ∧ φ u) (fun u t => Bw D (va_A w sz) (w' u) t) (va_A w sz)) (vx_X ψ (BXq D (va_A w sz) ex wx) (va_A w sz)) rm.cells rm.slots (va_A w sz)
def CVX {S S' : Type} (l : Launch) (y : MethodName) (ws : List Cond) (rm : Room) (D : va_G) (d : Nat → ClassId) (z : ZT) (av : List Value) (w : va_W) (w' : S → va_W) (φ : S → Prop) (ex : S' → Nat × Nat) (wx : S' → va_W) (ψ : S' → Prop) : Prop :=
  ∀ sz : Nat, vx_Met l y ws rm (Pw D d z av sz w) (va_Qv (fun (u : S) => φ u) (fun u t => Bw D (va_A w sz) (w' u) t) (va_A w sz)) (vx_X ψ (BXq D (va_A w sz) ex wx) (va_A w sz)) rm.cells rm.slots (va_A w sz)
theorem ex_cell {D : va_G} {d : Nat → ClassId} {s : State} {H : Heap} {w : va_W} {q c : Nat} (hK : KK D d s) (hP : va_P D CL w H) (hm : ∃ fs, (q, (.inr (c, fs) : va_E)) ∈ w) : ∃ ce : Cell, H[q]? = some ce ∧ ce.vm = .none ∧ s.vm.findClass (exN c) = some ce.cls := by
  obtain ⟨fs, hm⟩ := hm
  obtain ⟨i0, hi0⟩ := List.getElem?_of_mem hm
  obtain ⟨r, h1, cell, g1, g2, g3, -⟩ := hP i0 _ hi0
  refine ⟨cell, g1, g3, ?_⟩
  have h2 : exN c = r.1 := by
    unfold exN
    rw [show CL[c]? = some r from h1]
  rw [h2, g2]
  exact (hK.1.1 c r h1).2.1
theorem Met.ofWH {l : Launch} {y : MethodName} {ws ws' : List Cond} {rm : Room} {Pc : Array Value → State → Prop} {Qc : Array Value → State → Outcome → State → Prop} {mc ms : Nat} {free : Addr → Prop} {cc : ByteArray} {maxL : Nat} {ret : Option FieldType} {hh : List (Nat × Nat × Nat × Nat)}
    (hy : plainName y.cls = true) (hw : ws = Cond.codeWith y cc maxL ret hh :: ws')
    (body : ∀ p e s m args below meth c s₁, BodyLoose p l y (headSpec ws rm) cc maxL ret e s m args below meth c s₁ → c.maxLocals = maxL → Pc args s →
      W p l e (headSpec ws rm).room s m args below meth c s.heap [] 0 0 (MQ below Qc args s mc ms free) (entryFrame m args maxL)) : Met l y ws rm Pc Qc mc ms free := by
  refine MetFree.of_bodyS (code := cc) (maxLocals := maxL) (ret := ret) hy ?_ ?_
  · intro args s m h hn
    obtain ⟨m9, meth, c, hn9, h1, h2, h3, h4, -, h5, h6, -⟩ := Cond.codeWith_spec (atoms_spec (ws := ws) h _ (by rw [hw]; exact List.mem_cons_self))
    cases hn.symm.trans hn9
    exact ⟨meth, c, h1, h2, h3, h4, h5, h6⟩
  · intro p e s m args below meth c s₁ B hml hP _
    have hh0 : s₁.heap = s.heap := by rw [B.state]; rfl
    obtain ⟨t, a1, o, b1, b2, b3⟩ := body p e s m args below meth c s₁ B hml hP s₁ hh0 (Stand.of_body B)
    exact ⟨t, o, a1, b1, b2, ⟨b3.1, b3.2⟩⟩
def b3u {R T γ : Type} (u : UU) (x : UU → Option (XR R T)) (kt : Nat → Nat → T → UU → Option γ) (kr : R → T → UU → Option γ) : Option γ := match x (ue u) with
  | none => none
  | some (.inl (c, q, ζ)) => kt c q ζ (uo u)
  | some (.inr (r, ζ)) => kr r ζ (uo u)
theorem b3u_some {R T γ : Type} {x : UU → Option (XR R T)} {kt : Nat → Nat → T → UU → Option γ} {kr : R → T → UU → Option γ} {z : UU → γ} (h : ∀ u, b3u u x kt kr = some (z u)) : ∃ y : UU → XR R T, (∀ u, x u = some (y u)) ∧ (∀ u0 c q ζ, y u0 = .inl (c, q, ζ) → ∀ u1, kt c q ζ u1 = some (z (umix u0 u1))) ∧ ∀ u0 r ζ, y u0 = .inr (r, ζ) → ∀ u1, kr r ζ u1 = some (z (umix u0 u1)) := by
  have h1 : ∀ u, ∃ q, x u = some q := fun u => by
    have := h (umix u u)
    unfold b3u at this
    rw [ue_mix] at this
    cases hx : x u with
    | none => rw [hx] at this; cases this
    | some q => exact ⟨q, rfl⟩
  refine ⟨fun u => (h1 u).choose, fun u => (h1 u).choose_spec, fun u0 c q ζ hy u1 => ?_, fun u0 r ζ hy u1 => ?_⟩
  all_goals
    have h3 := h (umix u0 u1)
    unfold b3u at h3
    have hy2 : (h1 u0).choose = _ := hy
    rw [ue_mix, uo_mix, (h1 u0).choose_spec, hy2] at h3
    exact h3
section XTR
variable {p : Program} {l : Launch} {e : Env} {R : Room} {s : State} {m : MethodId} {args : Array Value} {below : List Frame} {meth : Method} {c : Code} {H : Heap} {locs : List Loc} {cells slots : Nat} {Q : State → Prop}
variable {pc mc ms : Nat} {ls : Array Slot} {rest st0 : List Value} {A : Nat → Prop} {D : va_G} {a : Array Value} {w : va_W}
theorem runT_v {S S' : Type} {φ : S → Prop} {w' : S → va_W} {ex : S' → Nat × Nat} {wx : S' → va_W} {ψ : S' → Prop} (hr : vx_Run p l e R s m args below meth c H locs cells slots mc ms (F0 m pc ls st0) rest (va_Qv (fun (u : S) => φ u) (fun u t => Bw D (va_A w H.size) (w' u) t) (va_A w H.size) a) (vx_X ψ (BXq D (va_A w H.size) ex wx) (va_A w H.size)) (va_A w H.size)) (hP : va_P D CL w H) (hD : va_D A w) (hS : va_S A s.heap H locs) (hA : ∀ q, s.heap.size ≤ q → A q)
    (kx : ∀ (u : S'), ψ u → ∀ (H1 : Heap) (locs1 : List Loc), va_P D CL (wx u) H1 → va_D A (wx u) → va_S A s.heap H1 locs1 → (∃ fs, ((ex u).2, (.inr ((ex u).1, fs) : va_E)) ∈ wx u) → vx_W p l e R s m args below meth c H1 locs1 (cells + mc) (slots + ms) Q (F0 m pc ls rest) (ex u).2)
    (kk : ∀ (u : S), φ u → ∀ (H1 : Heap) (locs1 : List Loc), va_P D CL (w' u) H1 → va_D A (w' u) → va_S A s.heap H1 locs1 → W p l e R s m args below meth c H1 locs1 (cells + mc) (slots + ms) Q (F0 m (pc + 3) ls rest)) : W p l e R s m args below meth c H locs cells slots Q (F0 m pc ls st0) := by
  have hF := va_freeAll hD hS hA
  refine vx_callv hr hS (fun q _ h => hF q h) hF (fun q _ h => hF q h) (fun E ce q9 u t H1 locs1 ht hvm hp hB hz hk hS1 g1 g2 g3 => ?_) (fun u t H1 locs1 ht hvm hp hB hz hk hS1 => ?_)
  · obtain ⟨rfl, -, hm, hB⟩ := hB
    exact kx u hp H1 locs1 (by rw [← ht]; exact hB.1) (hB.2.weaken (fun _ q _ h => hF q.1 h)) hS1 hm
  · exact kk u hp H1 locs1 (by rw [← ht]; exact hB.1) (hB.2.weaken (fun _ q _ h => hF q.1 h)) hS1
theorem runT_i {S S' : Type} {φ : S → Prop} {r : S → Int32} {w' : S → va_W} {ex : S' → Nat × Nat} {wx : S' → va_W} {ψ : S' → Prop} (hr : vx_Run p l e R s m args below meth c H locs cells slots mc ms (F0 m pc ls st0) rest (va_Qi (fun (r1 : Int32) (u : S) => r1 = r u ∧ φ u) (fun u t => Bw D (va_A w H.size) (w' u) t) (va_A w H.size) a) (vx_X ψ (BXq D (va_A w H.size) ex wx) (va_A w H.size)) (va_A w H.size)) (hP : va_P D CL w H) (hD : va_D A w) (hS : va_S A s.heap H locs) (hA : ∀ q, s.heap.size ≤ q → A q)
    (kx : ∀ (u : S'), ψ u → ∀ (H1 : Heap) (locs1 : List Loc), va_P D CL (wx u) H1 → va_D A (wx u) → va_S A s.heap H1 locs1 → (∃ fs, ((ex u).2, (.inr ((ex u).1, fs) : va_E)) ∈ wx u) → vx_W p l e R s m args below meth c H1 locs1 (cells + mc) (slots + ms) Q (F0 m pc ls rest) (ex u).2)
    (kk : ∀ (u : S), φ u → ∀ (H1 : Heap) (locs1 : List Loc), va_P D CL (w' u) H1 → va_D A (w' u) → va_S A s.heap H1 locs1 → W p l e R s m args below meth c H1 locs1 (cells + mc) (slots + ms) Q (F0 m (pc + 3) ls (.int (r u) :: rest))) : W p l e R s m args below meth c H locs cells slots Q (F0 m pc ls st0) := by
  have hF := va_freeAll hD hS hA
  refine vx_calli hr hS (fun q _ h => hF q h) hF (fun q _ h => hF q h) (fun E ce q9 u t H1 locs1 ht hvm hp hB hz hk hS1 g1 g2 g3 => ?_) (fun r1 u t H1 locs1 ht hvm hp hB hz hk hS1 => ?_)
  · obtain ⟨rfl, -, hm, hB⟩ := hB
    exact kx u hp H1 locs1 (by rw [← ht]; exact hB.1) (hB.2.weaken (fun _ q _ h => hF q.1 h)) hS1 hm
  · obtain ⟨rfl, hφ⟩ := hp
    exact kk u hφ H1 locs1 (by rw [← ht]; exact hB.1) (hB.2.weaken (fun _ q _ h => hF q.1 h)) hS1
end XTR
theorem CI.ofH {l : Launch} {y : MethodName} {cc : ByteArray} {nL : Nat} {rt : FieldType} {rm : Room} {D : va_G} {d : Nat → ClassId} {z : ZT} {av : List Value} {w : va_W} {r : Int32} {w' : va_W} {own : String} {hh : List (Nat × Nat × Nat × Nat)} (hc : y.cls = own) (hy : plainName y.cls = true) (hav : (lg_sl av).length ≤ nL) (hn : narrow rt (.int r) = .int r) 
    (body : ∀ (p : Program) (e : Env) (s : State) (m : MethodId) (args : Array Value) (below : List Frame) (meth : Method) (c : Code) (A : Nat → Prop) (Q : State → Prop) (ls : Array Slot), CallFix p m c cc nL s args lw_all own → meth.name = y.name → c.exceptionTable.toList = tableOf hh → KK D d s → va_P D CL w s.heap → va_D A w → ZZ z A s s.heap → va_S A s.heap s.heap [] → (∀ q, s.heap.size ≤ q → A q) → lv_has ls nL (lv_args 0 av) →
      (∀ (H : Heap) (locs : List Loc) (pc : Nat) (ls' : Array Slot), decode cc pc = .ok (.ireturn, 1) → va_P D CL (w') H → va_D A (w') → va_S A s.heap H locs → W p l e rm s m args below meth c H locs rm.cells rm.slots Q (F0 m pc ls' [.int r])) →
      W p l e rm s m args below meth c s.heap [] 0 0 Q (F0 m 0 ls [])) : CI l y (wsW_ y cc nL (some rt) hh) rm D d z av w r w' := by
  intro sz
  subst hc
  refine Met.ofWH (cc := cc) (maxL := nL) (ret := (some rt)) hy rfl ?_
  intro p e s m args below meth c s₁ B hml hv
  obtain ⟨rfl, hsz, hP, hK, hD0, hZ⟩ := hv
  have hts := atoms_spec (ws := (wsW_ y cc nL (some rt) hh)) B.pre
  have htab := vx_table (x := y) B (hts _ List.mem_cons_self)
  have hts : ∀ w ∈ lw_all, w.before _ s = true := fun w h => hts w (List.mem_cons_of_mem _ h)
  subst hsz
  have hD := hD0.self (sz := s.heap.size)
  have hl := lv_entry av (n := nL) hav
  rw [lg_entry_eq]
  exact body p e s m _ below meth c _ _ _ ⟨B.exec, B.bytes, hml, findClass_of_methodNamed B.named, hts⟩ (name_of_methodNamed B.named B.method).1 htab hK hP hD hZ va_S.rf (fun q h => Or.inr h) hl
    (fun H locs pc ls' hdg hP hD hS => W.zret B.exec B.bytes B.returns hn (fun t ht hW => ⟨⟨r, (), rfl, rfl, by rw [ht]; exact hP, hD⟩, hS.F ht⟩) hS.2.2 hdg B.notSynchronized)
theorem CIS.ofH {S : Type} {l : Launch} {y : MethodName} {cc : ByteArray} {nL : Nat} {rt : FieldType} {rm : Room} {D : va_G} {d : Nat → ClassId} {z : ZT} {av : List Value} {w : va_W} {r : S → Int32} {w' : S → va_W} {φ : S → Prop} {own : String} {hh : List (Nat × Nat × Nat × Nat)} (hc : y.cls = own) (hy : plainName y.cls = true) (hav : (lg_sl av).length ≤ nL) (hn : ∀ u, narrow rt (.int (r u)) = .int (r u)) 
    (body : ∀ (p : Program) (e : Env) (s : State) (m : MethodId) (args : Array Value) (below : List Frame) (meth : Method) (c : Code) (A : Nat → Prop) (Q : State → Prop) (ls : Array Slot), CallFix p m c cc nL s args lw_all own → meth.name = y.name → c.exceptionTable.toList = tableOf hh → KK D d s → va_P D CL w s.heap → va_D A w → ZZ z A s s.heap → va_S A s.heap s.heap [] → (∀ q, s.heap.size ≤ q → A q) → lv_has ls nL (lv_args 0 av) →
      (∀ (u : S), φ u → ∀ (H : Heap) (locs : List Loc) (pc : Nat) (ls' : Array Slot), decode cc pc = .ok (.ireturn, 1) → va_P D CL (w' u) H → va_D A (w' u) → va_S A s.heap H locs → W p l e rm s m args below meth c H locs rm.cells rm.slots Q (F0 m pc ls' [.int (r u)])) →
      W p l e rm s m args below meth c s.heap [] 0 0 Q (F0 m 0 ls [])) : CIS l y (wsW_ y cc nL (some rt) hh) rm D d z av w r w' φ := by
  intro sz
  subst hc
  refine Met.ofWH (cc := cc) (maxL := nL) (ret := (some rt)) hy rfl ?_
  intro p e s m args below meth c s₁ B hml hv
  obtain ⟨rfl, hsz, hP, hK, hD0, hZ⟩ := hv
  have hts := atoms_spec (ws := (wsW_ y cc nL (some rt) hh)) B.pre
  have htab := vx_table (x := y) B (hts _ List.mem_cons_self)
  have hts : ∀ w ∈ lw_all, w.before _ s = true := fun w h => hts w (List.mem_cons_of_mem _ h)
  subst hsz
  have hD := hD0.self (sz := s.heap.size)
  have hl := lv_entry av (n := nL) hav
  rw [lg_entry_eq]
  exact body p e s m _ below meth c _ _ _ ⟨B.exec, B.bytes, hml, findClass_of_methodNamed B.named, hts⟩ (name_of_methodNamed B.named B.method).1 htab hK hP hD hZ va_S.rf (fun q h => Or.inr h) hl
    (fun u hφ H locs pc ls' hdg hP hD hS => W.zret B.exec B.bytes B.returns (hn u) (fun t ht hW => ⟨⟨(r u), u, rfl, ⟨rfl, hφ⟩, by rw [ht]; exact hP, hD⟩, hS.F ht⟩) hS.2.2 hdg B.notSynchronized)
theorem CIX.of {S : Type} {S' : Type} {l : Launch} {y : MethodName} {cc : ByteArray} {nL : Nat} {rt : FieldType} {rm : Room} {D : va_G} {d : Nat → ClassId} {z : ZT} {av : List Value} {w : va_W} {r : S → Int32} {w' : S → va_W} {φ : S → Prop} {ex : S' → Nat × Nat} {wx : S' → va_W} {ψ : S' → Prop} {own : String} (hc : y.cls = own) (hy : plainName y.cls = true) (hav : (lg_sl av).length ≤ nL) (hn : ∀ u, narrow rt (.int (r u)) = .int (r u)) 
    (body : ∀ (p : Program) (e : Env) (s : State) (m : MethodId) (args : Array Value) (below : List Frame) (meth : Method) (c : Code) (A : Nat → Prop) (Q : State → Prop) (ls : Array Slot), CallFix p m c cc nL s args lw_all own → meth.name = y.name → KK D d s → va_P D CL w s.heap → va_D A w → ZZ z A s s.heap → va_S A s.heap s.heap [] → (∀ q, s.heap.size ≤ q → A q) → lv_has ls nL (lv_args 0 av) →
      (∀ (u : S), φ u → ∀ (H : Heap) (locs : List Loc) (pc : Nat) (ls' : Array Slot), decode cc pc = .ok (.ireturn, 1) → va_P D CL (w' u) H → va_D A (w' u) → va_S A s.heap H locs → W p l e rm s m args below meth c H locs rm.cells rm.slots Q (F0 m pc ls' [.int (r u)])) →
      (∀ (u : S'), ψ u → ∀ (H : Heap) (locs : List Loc) (pc : Nat) (ls' : Array Slot) (st' : List Value), va_P D CL (wx u) H → va_D A (wx u) → va_S A s.heap H locs → (∃ fs, ((ex u).2, (.inr ((ex u).1, fs) : va_E)) ∈ wx u) → vx_W p l e rm s m args below meth c H locs rm.cells rm.slots Q (F0 m pc ls' st') (ex u).2) →
      W p l e rm s m args below meth c s.heap [] 0 0 Q (F0 m 0 ls [])) : CIX l y (ws_ y cc nL (some rt)) rm D d z av w r w' φ ex wx ψ := by
  intro sz
  subst hc
  refine vx_ofW (XC := vx_X ψ (BXq D (va_A w sz) ex wx) (va_A w sz)) (cc := cc) (maxL := nL) (ret := (some rt)) hy rfl ?_
  intro p e s m args below meth c s₁ B hml ht hv
  obtain ⟨rfl, hsz, hP, hK, hD0, hZ⟩ := hv
  have hts := atoms_spec (ws := (ws_ y cc nL (some rt))) B.pre
  skip
  have hts : ∀ w ∈ lw_all, w.before _ s = true := fun w h => hts w (List.mem_cons_of_mem _ h)
  subst hsz
  have hD := hD0.self (sz := s.heap.size)
  have hl := lv_entry av (n := nL) hav
  rw [lg_entry_eq]
  exact body p e s m _ below meth c _ _ _ ⟨B.exec, B.bytes, hml, findClass_of_methodNamed B.named, hts⟩ (name_of_methodNamed B.named B.method).1 hK hP hD hZ va_S.rf (fun q h => Or.inr h) hl
    (fun u hφ H locs pc ls' hdg hP hD hS => vx_ret (W.zret B.exec B.bytes B.returns (hn u) (fun t ht hW => ⟨⟨(r u), u, rfl, ⟨rfl, hφ⟩, by rw [ht]; exact hP, hD⟩, hS.F ht⟩) hS.2.2 hdg B.notSynchronized))
    (fun u hψ H locs pc ls' st' hP hD hS hm => by
      obtain ⟨ce, g1, g2, g3⟩ := ex_cell hK hP hm
      exact vx_out (fun x hx => (ht x hx).elim) B.notSynchronized g1 g2 g3 (fun t ht hW => ⟨u, hψ, ⟨rfl, rfl, hm, by rw [ht]; exact hP, hD⟩, hS.F ht⟩) hS.2.2 (Nat.le_refl _) (Nat.le_refl _))
theorem CVX.of {S : Type} {S' : Type} {l : Launch} {y : MethodName} {cc : ByteArray} {nL : Nat} {rm : Room} {D : va_G} {d : Nat → ClassId} {z : ZT} {av : List Value} {w : va_W} {w' : S → va_W} {φ : S → Prop} {ex : S' → Nat × Nat} {wx : S' → va_W} {ψ : S' → Prop} {own : String} (hc : y.cls = own) (hy : plainName y.cls = true) (hav : (lg_sl av).length ≤ nL) 
    (body : ∀ (p : Program) (e : Env) (s : State) (m : MethodId) (args : Array Value) (below : List Frame) (meth : Method) (c : Code) (A : Nat → Prop) (Q : State → Prop) (ls : Array Slot), CallFix p m c cc nL s args lw_all own → meth.name = y.name → KK D d s → va_P D CL w s.heap → va_D A w → ZZ z A s s.heap → va_S A s.heap s.heap [] → (∀ q, s.heap.size ≤ q → A q) → lv_has ls nL (lv_args 0 av) →
      (∀ (u : S), φ u → ∀ (H : Heap) (locs : List Loc) (pc : Nat) (ls' : Array Slot), decode cc pc = .ok (.return_, 1) → va_P D CL (w' u) H → va_D A (w' u) → va_S A s.heap H locs → W p l e rm s m args below meth c H locs rm.cells rm.slots Q (F0 m pc ls' [])) →
      (∀ (u : S'), ψ u → ∀ (H : Heap) (locs : List Loc) (pc : Nat) (ls' : Array Slot) (st' : List Value), va_P D CL (wx u) H → va_D A (wx u) → va_S A s.heap H locs → (∃ fs, ((ex u).2, (.inr ((ex u).1, fs) : va_E)) ∈ wx u) → vx_W p l e rm s m args below meth c H locs rm.cells rm.slots Q (F0 m pc ls' st') (ex u).2) →
      W p l e rm s m args below meth c s.heap [] 0 0 Q (F0 m 0 ls [])) : CVX l y (ws_ y cc nL none) rm D d z av w w' φ ex wx ψ := by
  intro sz
  subst hc
  refine vx_ofW (XC := vx_X ψ (BXq D (va_A w sz) ex wx) (va_A w sz)) (cc := cc) (maxL := nL) (ret := none) hy rfl ?_
  intro p e s m args below meth c s₁ B hml ht hv
  obtain ⟨rfl, hsz, hP, hK, hD0, hZ⟩ := hv
  have hts := atoms_spec (ws := (ws_ y cc nL none)) B.pre
  skip
  have hts : ∀ w ∈ lw_all, w.before _ s = true := fun w h => hts w (List.mem_cons_of_mem _ h)
  subst hsz
  have hD := hD0.self (sz := s.heap.size)
  have hl := lv_entry av (n := nL) hav
  rw [lg_entry_eq]
  exact body p e s m _ below meth c _ _ _ ⟨B.exec, B.bytes, hml, findClass_of_methodNamed B.named, hts⟩ (name_of_methodNamed B.named B.method).1 hK hP hD hZ va_S.rf (fun q h => Or.inr h) hl
    (fun u hφ H locs pc ls' hdg hP hD hS => vx_ret (W.vret B.exec B.bytes B.returns (fun t ht hW => ⟨⟨u, rfl, hφ, by rw [ht]; exact hP, hD⟩, hS.F ht⟩) hS.2.2 hdg B.notSynchronized))
    (fun u hψ H locs pc ls' st' hP hD hS hm => by
      obtain ⟨ce, g1, g2, g3⟩ := ex_cell hK hP hm
      exact vx_out (fun x hx => (ht x hx).elim) B.notSynchronized g1 g2 g3 (fun t ht hW => ⟨u, hψ, ⟨rfl, rfl, hm, by rw [ht]; exact hP, hD⟩, hS.F ht⟩) hS.2.2 (Nat.le_refl _) (Nat.le_refl _))
theorem CVX.ofH {S : Type} {S' : Type} {l : Launch} {y : MethodName} {cc : ByteArray} {nL : Nat} {rm : Room} {D : va_G} {d : Nat → ClassId} {z : ZT} {av : List Value} {w : va_W} {w' : S → va_W} {φ : S → Prop} {ex : S' → Nat × Nat} {wx : S' → va_W} {ψ : S' → Prop} {own : String} {hh : List (Nat × Nat × Nat × Nat)} (hc : y.cls = own) (hy : plainName y.cls = true) (hav : (lg_sl av).length ≤ nL) 
    (body : ∀ (p : Program) (e : Env) (s : State) (m : MethodId) (args : Array Value) (below : List Frame) (meth : Method) (c : Code) (A : Nat → Prop) (Q : State → Prop) (ls : Array Slot), CallFix p m c cc nL s args lw_all own → meth.name = y.name → c.exceptionTable.toList = tableOf hh → KK D d s → va_P D CL w s.heap → va_D A w → ZZ z A s s.heap → va_S A s.heap s.heap [] → (∀ q, s.heap.size ≤ q → A q) → lv_has ls nL (lv_args 0 av) →
      (∀ (u : S), φ u → ∀ (H : Heap) (locs : List Loc) (pc : Nat) (ls' : Array Slot), decode cc pc = .ok (.return_, 1) → va_P D CL (w' u) H → va_D A (w' u) → va_S A s.heap H locs → W p l e rm s m args below meth c H locs rm.cells rm.slots Q (F0 m pc ls' [])) →
      (∀ (u : S'), ψ u → ∀ (H : Heap) (locs : List Loc) (pc : Nat) (ls' : Array Slot) (st' : List Value), (∀ z9 ∈ c.exceptionTable.toList, covers z9 pc = false ∨ (z9.catchType ≠ 0 ∧ ∃ nm : String, (Cond.classLink own z9.catchType nm).before args s = true ∧ va_Nc (exN (ex u).1) nm s)) → va_P D CL (wx u) H → va_D A (wx u) → va_S A s.heap H locs → (∃ fs, ((ex u).2, (.inr ((ex u).1, fs) : va_E)) ∈ wx u) → vx_W p l e rm s m args below meth c H locs rm.cells rm.slots Q (F0 m pc ls' st') (ex u).2) →
      W p l e rm s m args below meth c s.heap [] 0 0 Q (F0 m 0 ls [])) : CVX l y (wsW_ y cc nL none hh) rm D d z av w w' φ ex wx ψ := by
  intro sz
  subst hc
  refine vx_ofWH (XC := vx_X ψ (BXq D (va_A w sz) ex wx) (va_A w sz)) (cc := cc) (maxL := nL) (ret := none) hy rfl ?_
  intro p e s m args below meth c s₁ B hml hv
  obtain ⟨rfl, hsz, hP, hK, hD0, hZ⟩ := hv
  have hts := atoms_spec (ws := (wsW_ y cc nL none hh)) B.pre
  have htab := vx_table (x := y) B (hts _ List.mem_cons_self)
  have hts : ∀ w ∈ lw_all, w.before _ s = true := fun w h => hts w (List.mem_cons_of_mem _ h)
  subst hsz
  have hD := hD0.self (sz := s.heap.size)
  have hl := lv_entry av (n := nL) hav
  rw [lg_entry_eq]
  exact body p e s m _ below meth c _ _ _ ⟨B.exec, B.bytes, hml, findClass_of_methodNamed B.named, hts⟩ (name_of_methodNamed B.named B.method).1 htab hK hP hD hZ va_S.rf (fun q h => Or.inr h) hl
    (fun u hφ H locs pc ls' hdg hP hD hS => vx_ret (W.vret B.exec B.bytes B.returns (fun t ht hW => ⟨⟨u, rfl, hφ, by rw [ht]; exact hP, hD⟩, hS.F ht⟩) hS.2.2 hdg B.notSynchronized))
    (fun u hψ H locs pc ls' st' hcov hP hD hS hm => by
      obtain ⟨ce, g1, g2, g3⟩ := ex_cell hK hP hm
      exact vx_outP (findClass_of_methodNamed B.named) B.notSynchronized hcov g1 g2 g3 (fun t ht hW => ⟨u, hψ, ⟨rfl, rfl, hm, by rw [ht]; exact hP, hD⟩, hS.F ht⟩) hS.2.2 (Nat.le_refl _) (Nat.le_refl _))
theorem CIX.ofH {S : Type} {S' : Type} {l : Launch} {y : MethodName} {cc : ByteArray} {nL : Nat} {rt : FieldType} {rm : Room} {D : va_G} {d : Nat → ClassId} {z : ZT} {av : List Value} {w : va_W} {r : S → Int32} {w' : S → va_W} {φ : S → Prop} {ex : S' → Nat × Nat} {wx : S' → va_W} {ψ : S' → Prop} {own : String} {hh : List (Nat × Nat × Nat × Nat)} (hc : y.cls = own) (hy : plainName y.cls = true) (hav : (lg_sl av).length ≤ nL) (hn : ∀ u, narrow rt (.int (r u)) = .int (r u)) 
    (body : ∀ (p : Program) (e : Env) (s : State) (m : MethodId) (args : Array Value) (below : List Frame) (meth : Method) (c : Code) (A : Nat → Prop) (Q : State → Prop) (ls : Array Slot), CallFix p m c cc nL s args lw_all own → meth.name = y.name → c.exceptionTable.toList = tableOf hh → KK D d s → va_P D CL w s.heap → va_D A w → ZZ z A s s.heap → va_S A s.heap s.heap [] → (∀ q, s.heap.size ≤ q → A q) → lv_has ls nL (lv_args 0 av) →
      (∀ (u : S), φ u → ∀ (H : Heap) (locs : List Loc) (pc : Nat) (ls' : Array Slot), decode cc pc = .ok (.ireturn, 1) → va_P D CL (w' u) H → va_D A (w' u) → va_S A s.heap H locs → W p l e rm s m args below meth c H locs rm.cells rm.slots Q (F0 m pc ls' [.int (r u)])) →
      (∀ (u : S'), ψ u → ∀ (H : Heap) (locs : List Loc) (pc : Nat) (ls' : Array Slot) (st' : List Value), (∀ z9 ∈ c.exceptionTable.toList, covers z9 pc = false ∨ (z9.catchType ≠ 0 ∧ ∃ nm : String, (Cond.classLink own z9.catchType nm).before args s = true ∧ va_Nc (exN (ex u).1) nm s)) → va_P D CL (wx u) H → va_D A (wx u) → va_S A s.heap H locs → (∃ fs, ((ex u).2, (.inr ((ex u).1, fs) : va_E)) ∈ wx u) → vx_W p l e rm s m args below meth c H locs rm.cells rm.slots Q (F0 m pc ls' st') (ex u).2) →
      W p l e rm s m args below meth c s.heap [] 0 0 Q (F0 m 0 ls [])) : CIX l y (wsW_ y cc nL (some rt) hh) rm D d z av w r w' φ ex wx ψ := by
  intro sz
  subst hc
  refine vx_ofWH (XC := vx_X ψ (BXq D (va_A w sz) ex wx) (va_A w sz)) (cc := cc) (maxL := nL) (ret := (some rt)) hy rfl ?_
  intro p e s m args below meth c s₁ B hml hv
  obtain ⟨rfl, hsz, hP, hK, hD0, hZ⟩ := hv
  have hts := atoms_spec (ws := (wsW_ y cc nL (some rt) hh)) B.pre
  have htab := vx_table (x := y) B (hts _ List.mem_cons_self)
  have hts : ∀ w ∈ lw_all, w.before _ s = true := fun w h => hts w (List.mem_cons_of_mem _ h)
  subst hsz
  have hD := hD0.self (sz := s.heap.size)
  have hl := lv_entry av (n := nL) hav
  rw [lg_entry_eq]
  exact body p e s m _ below meth c _ _ _ ⟨B.exec, B.bytes, hml, findClass_of_methodNamed B.named, hts⟩ (name_of_methodNamed B.named B.method).1 htab hK hP hD hZ va_S.rf (fun q h => Or.inr h) hl
    (fun u hφ H locs pc ls' hdg hP hD hS => vx_ret (W.zret B.exec B.bytes B.returns (hn u) (fun t ht hW => ⟨⟨(r u), u, rfl, ⟨rfl, hφ⟩, by rw [ht]; exact hP, hD⟩, hS.F ht⟩) hS.2.2 hdg B.notSynchronized))
    (fun u hψ H locs pc ls' st' hcov hP hD hS hm => by
      obtain ⟨ce, g1, g2, g3⟩ := ex_cell hK hP hm
      exact vx_outP (findClass_of_methodNamed B.named) B.notSynchronized hcov g1 g2 g3 (fun t ht hW => ⟨u, hψ, ⟨rfl, rfl, hm, by rw [ht]; exact hP, hD⟩, hS.F ht⟩) hS.2.2 (Nat.le_refl _) (Nat.le_refl _))
