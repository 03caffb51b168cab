/-! Throwable.getCause: a synchronized method, its receiver's monitor free -/
set_option maxRecDepth 100000
set_option maxHeartbeats 4000000
section
variable {l : Launch} {R : Room} {p : Program} {e : Env} {below : List Frame} {s : State} {sargs : Array Value} {y : MethodName} {len W9 : Nat}
theorem gc_back {ws : List Cond} {rm : Room} {Pc : Array Value → State → Prop} {Qc : Array Value → State → Outcome → State → Prop} {XC : Addr → String → State → State → Prop} {mc ms : Nat} {free : Addr → Prop} {bytes : ByteArray} {maxL : Nat} {ret : Option FieldType}
    (hM : vx_Met l y ws rm Pc Qc XC mc ms free) (hblind : FrameBlind Pc) (hrc : rm.cells = mc) (hrs : rm.slots = ms)
    (hframes : rm.frames + 1 ≤ R.frames) (hlocals : W9 + (maxL + 11) + rm.locals ≤ R.locals)
    (hws : ∀ w ∈ ws, ∀ a' U, s.WarmedH U.vm → w.before a' U = true) (hcode : Cond.codeSync y bytes maxL ret ∈ ws) (hinit : ∀ a' U, s.WarmedH U.vm → (Cond.initialized y.cls).before a' U = true) :
    vx_Back l R p e below s sargs y len W9 (PreOf R mc ms Pc) (PostOf Qc mc ms free) (vx_Post XC mc ms free) := by
  intro m meth c A g ig mk a X hg hsize hdg hW hn hp
  have h1 : (headSpec ws rm).pre.before a A.U = true := atoms_intro fun w hw => hws w hw _ _ X.warmed
  have h2 : (Cond.codeSync y bytes maxL ret).before a A.U = true := hws _ hcode _ _ X.warmed
  have h3 : (Cond.initialized y.cls).before a A.U = true := hinit _ _ X.warmed
  have h4 : A.cells + (headSpec ws rm).room.cells ≤ R.cells := by rw [show (headSpec ws rm).room.cells = mc from hrc]; exact hp.1
  have h5 : A.slots + (headSpec ws rm).room.slots ≤ R.slots := by rw [show (headSpec ws rm).room.slots = ms from hrs]; exact hp.2.1
  have hPc : Pc a (A.U.calling g mk a) := hblind _ _ _ _ hp.2.2
  obtain ⟨U, Ls, c0, s0⟩ := A
  dsimp only [Pt.U, Pt.locs, Pt.cells, Pt.slots] at h1 h2 h3 h4 h5 X hn hPc ⊢
  obtain ⟨methY, cY, hmY, hcY, -, hlY, -, -, -, -⟩ := Cond.codeSync_spec hn h2
  obtain ⟨kY, hkY, -⟩ := className_of_methodNamed hn
  have hinitY : kY.init = .initialized := Cond.initialized_spec (findClass_of_methodNamed hn) hkY h3
  have h : At U g.method c below := by rw [hg]; exact X.here
  have hlocals9 : W9 + (maxL + 11) + (headSpec ws rm).room.locals ≤ R.locals := hlocals
  have happ : (headSpec ws rm).appliesLoose y e.platform (U.calling g mk a) = true :=
    Spec.appliesLoose_calling (g := g) h hdg hn hkY hinitY
      (X.room_calling (g := g) (R' := (headSpec ws rm).room) hsize hmY hcY hframes (by rw [hlY]; omega) h4 h5) h1
  obtain ⟨mid, hmid⟩ := h.above
  have hfr : (U.setTop g).frames = (.java g :: mid) ++ below := by rw [State.frames_setTop' g h.top, hmid]; rfl
  obtain ⟨o, s₂, hsteps, -, hend, hq⟩ := Steps.callFree hM p X.admits X.cas X.clock (acts := []) hfr happ hPc trivial
  have hq' : vx_Q Qc XC mc ms free a (U.calling g mk a) o s₂ := hq
  rw [State.frames_setTop' g h.top] at hend
  obtain ⟨g₀, hg0⟩ := Option.isSome_iff_exists.mp h.top
  obtain ⟨r, hr⟩ := State.topJava?_eq_some.mp hg0
  have hr' : (({ U with heap := s₂.heap, slotsUsed := s₂.slotsUsed } : State).setVm s₂.vm).frames = .java g₀ :: r := hr
  rcases hq' with ⟨hqc, L, hfe, hL⟩ | ⟨q, rfl, E, ce, L, hx, hce, hcv, hcl, hW₂, hsm, hL⟩
  · obtain ⟨⟨v, rfl⟩, hW₂, e2, q2, q3, q4, q5, q6⟩ := id hfe
    have e3 : s₂ = ({ (U.calling g mk a).setFrames s₂.frames with heap := s₂.heap, slotsUsed := s₂.slotsUsed } : State).setVm s₂.vm := by
      have : s₂ = ({ s₂ with vm := (U.calling g mk a).vm } : State).setVm s₂.vm := rfl
      rw [e2] at this
      exact this
    obtain ⟨c₂, i₂, len₂, hc₂, hd₂, hf₂⟩ := hend
    have hW' : U.WarmedH s₂.vm := hW₂
    have hcc : c₂ = c := by
      have h1 : s₂.code? g.method = U.code? g.method := by
        rw [State.code?_eq, State.code?_eq, hW'.alike.method?]
      exact Option.some.inj (hc₂.symm.trans (h1.trans h.code))
    subst hcc
    have hlen : len₂ = len := by rw [hdg] at hd₂; cases hd₂; rfl
    subst hlen
    have hs₂ : s₂ = (({ U with heap := s₂.heap, slotsUsed := s₂.slotsUsed } : State).setVm s₂.vm).setTop { g with pc := g.pc + len₂, stack := v.toList ++ g.stack } := by
      refine e3.trans ?_
      rw [hf₂, State.calling_eq h.top, State.setFrames_setFrames, State.setTop_of_frames _ hr', hr]
      rfl
    have hsame : U.sameButNew ({ U with heap := s₂.heap, slotsUsed := s₂.slotsUsed } : State) L mc ms := by
      refine ⟨?_, q2, q3, q4, q5, q6⟩
      obtain ⟨t, ht, -⟩ := State.frames_cons hr
      show ({ U with heap := s₂.heap, slotsUsed := s₂.slotsUsed } : State) = { U.setFrames U.frames with heap := s₂.heap, slotsUsed := s₂.slotsUsed }
      rw [State.setFrames_self ht]
    subst hg
    refine Or.inl ⟨v, ⟨(({ U with heap := s₂.heap, slotsUsed := s₂.slotsUsed } : State).setVm s₂.vm), Ls ++ L, c0 + mc, s0 + ms⟩,
      ⟨X.admits, X.cas, X.clock, X.frames, X.room, X.hears, X.method, X.code, (X.here.setHeapUsed s₂.heap s₂.slotsUsed).setVm hW'.alike, X.tail, State.WarmedH.trans X.warmed hW', X.limits, X.bytes, X.same.trans (hsame.setVm s.vm)⟩,
      ⟨g, mk, s₂, L, rfl, rfl, hqc, rfl, hL, rfl, rfl⟩, ?_⟩
    show Steps p.tables e below _ ((({ U with heap := s₂.heap, slotsUsed := s₂.slotsUsed } : State).setVm s₂.vm).setTop { g with pc := g.pc + len₂, stack := v.toList ++ g.stack })
    rw [← hs₂]
    exact hsteps
  · obtain ⟨e2, q2, q3, q4, q5, q6⟩ := id hsm
    have e3 : s₂ = ({ (U.calling g mk a).setFrames s₂.frames with heap := s₂.heap, slotsUsed := s₂.slotsUsed } : State).setVm s₂.vm := by
      have : s₂ = ({ s₂ with vm := (U.calling g mk a).vm } : State).setVm s₂.vm := rfl
      rw [e2] at this
      exact this
    have hf₂ : s₂.frames = .throwing q :: .java g :: U.frames.tail := hend
    have hW' : U.WarmedH s₂.vm := hW₂
    have hs₂ : s₂ = ((({ U with heap := s₂.heap, slotsUsed := s₂.slotsUsed } : State).setVm s₂.vm).setTop g).pushFrame (.throwing q) := by
      refine e3.trans ?_
      rw [hf₂, State.calling_eq h.top, State.setFrames_setFrames, State.pushFrame, State.frames_setTop _ hr', State.setTop_of_frames _ hr', State.setFrames_setFrames, hr]
      rfl
    have hsame : U.sameButNew ({ U with heap := s₂.heap, slotsUsed := s₂.slotsUsed } : State) L mc ms := by
      refine ⟨?_, q2, q3, q4, q5, q6⟩
      obtain ⟨t, ht, -⟩ := State.frames_cons hr
      show ({ U with heap := s₂.heap, slotsUsed := s₂.slotsUsed } : State) = { U.setFrames U.frames with heap := s₂.heap, slotsUsed := s₂.slotsUsed }
      rw [State.setFrames_self ht]
    subst hg
    refine Or.inr ⟨q, ⟨(({ U with heap := s₂.heap, slotsUsed := s₂.slotsUsed } : State).setVm s₂.vm), Ls ++ L, c0 + mc, s0 + ms⟩,
      ⟨X.admits, X.cas, X.clock, X.frames, X.room, X.hears, X.method, X.code, (X.here.setHeapUsed s₂.heap s₂.slotsUsed).setVm hW'.alike, X.tail, State.WarmedH.trans X.warmed hW', X.limits, X.bytes, X.same.trans (hsame.setVm s.vm)⟩,
      ⟨g, mk, s₂, L, E, ce, rfl, rfl, hx, hce, hcv, hcl, rfl, hL, rfl, rfl⟩, ?_⟩
    show Steps p.tables e below _ (((({ U with heap := s₂.heap, slotsUsed := s₂.slotsUsed } : State).setVm s₂.vm).setTop g).pushFrame (.throwing q))
    rw [← hs₂]
    exact hsteps
end
section
variable {p : Program} {l : Launch} {e : Env} {R : Room} {s : State} {m : MethodId} {args : Array Value} {below : List Frame} {meth : Method} {c : Code} {T : State} {locs : List Loc} {cells slots : Nat}
theorem gc_callV (X : Stand p l e R s m args below meth c T locs cells slots) (hexec : p.tables.exec = Jvm.exec) {own C : String} {index : Nat} {y : MethodName} {bytes : ByteArray} {maxL : Nat} {ret : Option FieldType}
    (hown : s.vm.findClass own = some m.cls) (hlink : (Cond.methodLink own index y).before args s = true) (hinst : (Cond.instanceMethod y).before args s = true) (hsel : (Cond.selects C y y).before args s = true)
    (hcode : (Cond.codeSync y bytes maxL ret).before args s = true) (hy : y.cls ≠ "java/lang/invoke/MethodHandle" ∧ y.cls ≠ "java/lang/invoke/VarHandle")
    {W9 : Nat} {Pre : Pt → Array Value → Prop} {Post : Pt → Array Value → Option Value → Pt → Prop} {PostX : Pt → Array Value → Addr → Pt → Prop} (hK : vx_Back l R p e below s args y 3 W9 Pre Post PostX)
    {b : Addr} {cellB : Cell} (hcell : T.heap[b]? = some cellB) (hobj : cellB.vm.isStatics = false) (hcls : s.vm.findClass C = some cellB.cls)
    {g : JFrame} (hg : g.method = m) (hsize : g.locals.size = c.maxLocals) {argsL rest : List Value} (hlen : ∀ sig, parseMethodDescriptor y.desc = some sig → argsL.length = sig.parameters.length)
    (hstack : g.stack = argsL.reverse ++ .ref b :: rest) (hW : 2 * g.monitorRoom + (rest.map fun v => v.category).sum ≤ W9) (hdg : decode c.code g.pc = .ok (.invokevirtual index, 3))
    (hpre : ∀ vm₁, s.WarmedH vm₁ → Pre ⟨T.setVm vm₁, locs, cells, slots⟩ (Value.ref b :: argsL).toArray) :
    (∃ (v : Option Value) (vm₁ : Vm) (B : Pt), s.WarmedH vm₁ ∧ Stand p l e R s m args below meth c B.U B.locs B.cells B.slots ∧ Post ⟨T.setVm vm₁, locs, cells, slots⟩ (Value.ref b :: argsL).toArray v B ∧
      ∀ target, Steps p.tables e below (B.U.setTop { g with pc := g.pc + 3, stack := v.toList ++ rest }) target → Steps p.tables e below (T.setTop g) target) ∨
    (∃ (q : Addr) (vm₁ : Vm) (B : Pt), s.WarmedH vm₁ ∧ Stand p l e R s m args below meth c B.U B.locs B.cells B.slots ∧ PostX ⟨T.setVm vm₁, locs, cells, slots⟩ (Value.ref b :: argsL).toArray q B ∧
      Steps p.tables e below (T.setTop g) ((B.U.setTop { g with stack := rest }).pushFrame (.throwing q))) := by
  obtain ⟨mk, methM, hnamed, hmethM, hstM, habM⟩ := Cond.instanceMethod_spec hinst
  obtain ⟨methM', cM, hmethM', -, -, -, -, -, -, hsigM⟩ := Cond.codeSync_spec hnamed hcode
  cases hmethM.symm.trans hmethM'
  obtain ⟨c2, r2, m2, q1, q2, q3, q4, kP, hkP, hkPi⟩ := Cond.selects_spec hsel
  cases hcls.symm.trans q1
  cases (State.methodFound?_of_named hnamed hy).symm.trans q2
  cases hnamed.symm.trans q3
  have hselP : selectMethod e.platform s.vm cellB.cls mk = .method mk := by rw [Launch.admits_selectMethod X.admits]; exact q4
  obtain ⟨vm₁, X₁, hstep₁⟩ := X.invokevirtual hexec hown hlink hnamed hmethM hstM hkP hkPi hy (a := b) (cell := cellB) hcell
    (fun z h => by rw [h] at hobj; cases hobj) hselP hmethM habM hkP hkPi (g := g) hg (argsL := argsL) (rest := rest) (hlen _ hsigM) hstack hdg
  rcases hK m meth c ⟨T.setVm vm₁, locs, cells, slots⟩ { g with stack := rest } (.invokevirtual index) mk (Value.ref b :: argsL).toArray X₁ hg hsize hdg hW (X₁.named hnamed) (hpre vm₁ X₁.warmed) with ⟨v, B, X', hpost, hsteps⟩ | ⟨q, B, X', hpost, hsteps⟩
  · exact Or.inl ⟨v, vm₁, B, X₁.warmed, X', hpost, fun target h => hstep₁ _ fun acts => by rw [doInvoke_state]; exact hsteps.trans h⟩
  · exact Or.inr ⟨q, vm₁, B, X₁.warmed, X', hpost, hstep₁ _ fun acts => by rw [doInvoke_state]; exact hsteps⟩
end
section
variable {p : Program} {l : Launch} {e : Env} {R : Room} {s : State} {m : MethodId} {args : Array Value} {below : List Frame} {meth : Method} {c : Code} {H : Heap} {locs : List Loc} {cells slots : Nat}
variable {y : MethodName} {bytes cc : ByteArray} {maxL nL mc ms n index : Nat} {ret : Option FieldType} {ws : List Cond} {rm : Room} {Pc : Array Value → State → Prop} {Qc : Array Value → State → Outcome → State → Prop} {XC : Addr → String → State → State → Prop} {free : Addr → Prop} {Ts : List Cond} {own C : String} {b : Addr} {As rest : List Value} {g : JFrame}
theorem gc_runV (S : CallFix p m c cc nL s args Ts own) (hM : vx_Met l y ws rm Pc Qc XC mc ms free) (hrc : rm.cells = mc) (hrs : rm.slots = ms) (hfr : rm.frames + 1 ≤ R.frames) (hlo : 8 + (maxL + 11) + rm.locals ≤ R.locals) (hws : ∀ w ∈ ws, ∀ (a' : Array Value) (U : State), s.WarmedH U.vm → w.before a' U = true) (hcw : Cond.codeSync y bytes maxL ret ∈ ws) (hcode : (Cond.codeSync y bytes maxL ret).before args s = true) (hini : (Cond.initialized y.cls).before args s = true) (hy : y.cls ≠ "java/lang/invoke/MethodHandle" ∧ y.cls ≠ "java/lang/invoke/VarHandle") (hlen : ∀ sig, parseMethodDescriptor y.desc = some sig → n = sig.parameters.length) (hl : (Cond.methodLink own index y).before args s = true) (hin : (Cond.instanceMethod y).before args s = true) (hse : (Cond.selects C y y).before args s = true) (hp : PreV s H C b Pc As)
    (hg : g.method = m) (hn : As.length = n) (hsize : g.locals.size = nL) (hstack : g.stack = As.reverse ++ .ref b :: rest) (hW : 2 * g.monitorRoom + (rest.map fun v => v.category).sum ≤ 8) (hdg : decode cc g.pc = .ok (.invokevirtual index, 3)) (hf : cells + mc ≤ R.cells ∧ slots + ms ≤ R.slots) :
    vx_Run p l e R s m args below meth c H locs cells slots mc ms g rest (Qc (Value.ref b :: As).toArray) XC free := by
  have hK : vx_Back l R p e below s args y 3 8 (PreOf R mc ms Pc) (PostOf Qc mc ms free) (vx_Post XC mc ms free) := gc_back (bytes := bytes) (maxL := maxL) (ret := ret) hM hp.1 hrc hrs hfr hlo hws hcw (fun a' U hW => word_at hW (Or.inl (by first | rfl | simp [Cond.onTables, Cond.keeps, Cond.steady])) hini)
  obtain ⟨hx, hb, hml, ho, -⟩ := S
  obtain ⟨-, ⟨cellB, hcB, hoB, hclB⟩, hPc⟩ := hp
  intro T hT X
  rcases gc_callV X hx (C := C) (bytes := bytes) (maxL := maxL) (ret := ret) ho hl hin hse hcode hy hK (by rw [hT]; exact hcB) hoB hclB hg (hsize.trans hml.symm) (argsL := As) (rest := rest) (fun sig h => hn.trans (hlen sig h)) hstack hW (by rw [hb]; exact hdg)
    (fun vm₁ hW₁ => ⟨hf.1, hf.2, hPc (T.setVm vm₁) hT hW₁⟩) with ⟨v, vm₁, ⟨U', l2, c2, s2⟩, hW₁, X', ⟨g', mk, t, L, e1, e2, hq, h1, hL, h2, h3⟩, st⟩ | ⟨q, vm₁, ⟨U', l2, c2, s2⟩, hW₁, X', ⟨g', mk, t, L, E, ce, e1, e2, hq, hce, hcv, hcl, h1, hL, h2, h3⟩, st⟩
  · dsimp only [Pt.U, Pt.locs, Pt.cells, Pt.slots] at X' e1 e2 h1 h2 h3 st
    subst h1; subst h2; subst h3
    exact Or.inl ⟨v, (T.setVm vm₁).calling g' mk (Value.ref b :: As).toArray, t, U', L, hT, X', hL, e1, e2, hq, st⟩
  · dsimp only [Pt.U, Pt.locs, Pt.cells, Pt.slots] at X' e1 e2 h1 h2 h3 st hcl
    subst h1; subst h2; subst h3
    exact Or.inr ⟨q, (T.setVm vm₁).calling g' mk (Value.ref b :: As).toArray, t, U', L, E, ce, hT, X', hL, e1, e2, hq, hce, hcv, vx_cls hW₁ hcl, st⟩
end
def yGC : MethodName := ⟨"java/lang/Throwable", "getCause", "()Ljava/lang/Throwable;"⟩
abbrev wsGC : List Cond := Cond.codeSync yGC prog_37_method_8_code 1 (some (.object "java/lang/Throwable")) :: lw_all
theorem gcd0 : decode prog_37_method_8_code 0 = .ok (.aload_n 0, 1) := by rfl
theorem gcd1 : decode prog_37_method_8_code 1 = .ok (.getfield 7, 3) := by rfl
theorem gcd4 : decode prog_37_method_8_code 4 = .ok (.aload_n 0, 1) := by rfl
theorem gcd5 : decode prog_37_method_8_code 5 = .ok (.if_acmp .ne 7, 3) := by rfl
theorem gcd12 : decode prog_37_method_8_code 12 = .ok (.aload_n 0, 1) := by rfl
theorem gcd13 : decode prog_37_method_8_code 13 = .ok (.getfield 7, 3) := by rfl
theorem gcd16 : decode prog_37_method_8_code 16 = .ok (.areturn, 1) := by rfl
abbrev gcPc (D : va_G) (d : Nat → ClassId) (ci : Nat) (q : Nat) (fs : List Value) : Array Value → State → Prop := fun a U => a = #[.ref q] ∧ va_P D CL [(q, .inr (ci, fs))] U.heap ∧ KK D d U ∧ MF U.heap q
theorem gc_met (l : Launch) (D : va_G) (d : Nat → ClassId) {C : String} {T : u_T} {N ci q : Nat} {fs : List Value} {r : Option Nat} (hc : CL[ci]? = some (C, T, N)) (hin : ∀ w ∈ u_ws C T N, w ∈ lw_all) (hT : T 1 = ("java/lang/Throwable", "cause", "Ljava/lang/Throwable;", false)) (hN : 1 < N) (hv : fs[1]? = some (va_rf r)) (hne : r ≠ some q) :
    vx_Met l yGC wsGC (rmc 0 0 0 0) (gcPc D d ci q fs) (va_Sq (fun x => x = r)) (fun _ _ _ _ => False) 0 0 (fun _ => False) := by
  intro p e ha hcs hck s m args below hf happ hPc _
  obtain ⟨hrun, hable, halone, hname, hhears, hinit, hroom, hpre⟩ := (Spec.appliesLoose_iff hf).mp happ
  have hall := atoms_spec (ws := wsGC) hpre
  have hts : ∀ w ∈ lw_all, w.before args s = true := fun w h => hall w (List.mem_cons_of_mem _ h)
  obtain ⟨meth, c, hmeth, hcode, hbytes, hlocals, hret, hlocks, -, -⟩ := Cond.codeSync_spec hname (hall _ List.mem_cons_self)
  obtain ⟨m', meth', hn', hm', hst, -⟩ := Cond.instanceMethod_spec (hts _ q1456)
  cases hname.symm.trans hn'
  cases hmeth.symm.trans hm'
  obtain ⟨rfl, hP, hK, ce, g1, g2, g3⟩ := hPc
  obtain ⟨hlt, -⟩ := Array.getElem?_eq_some_iff.mp g1
  obtain ⟨rr, h1, cell, q1, q2, q3, q4⟩ := hP 0 _ rfl
  have hrr : rr = (C, T, N) := Option.some.inj (h1.symm.trans hc)
  subst hrr
  have hce : cell = ce := Option.some.inj (q1.symm.trans g1)
  subst hce
  obtain ⟨hS, hfc, kC, hkC, hkind⟩ := hK.1.1 ci _ hc
  obtain ⟨cf, kf, fi, f, hi, hsl⟩ := hS 1 hN
  have hstat : f.isStatic = false := (u_facts hfc hkC (u_lays hts hin hN) hi).1
  replace hi : s.fieldFound? (T 1).1 (T 1).2.1 (T 1).2.2.1 = some (cf, kf, fi, f) := hi
  rw [hT] at hi
  have hslot : cell.slots[f.slot]? = some (va_rf r) := by
    rw [hsl, q4 1 hN]
    simp [vp_V, hv]
  have hown : s.vm.findClass "java/lang/Throwable" = some m.cls := findClass_of_methodNamed hname
  have hlink := hts _ q738
  have hent : cell.enterable s.cur := Or.inl ⟨g2, g3⟩
  have hcur := State.cur_lt_of_frames hf
  -- behind the entry
  obtain ⟨s1, hs1⟩ : ∃ s1, s1 = (s.setCell q (cell.withEntry s.cur)).setFrames (.java (entryFrameSync m #[.ref q] 1 q) :: below) := ⟨_, rfl⟩
  have hcur' : (s.setCell q (cell.withEntry s.cur)).cur < (s.setCell q (cell.withEntry s.cur)).threads.size := hcur
  have hf1 : s1.frames = .java (entryFrameSync m #[.ref q] 1 q) :: below := by
    rw [hs1]
    exact State.frames_setFrames _ hcur'
  have ht1 := State.topJava?_of_frames hf1
  have hvm1 : s1.vm = s.vm := by rw [hs1]; rfl
  have hplain : s1.plainMethod m := by
    rw [hs1]
    exact State.plainMethod.of_named (s := s) (x := yGC) (by decide) hname hmeth
  have hAt : At s1 m c below :=
    ⟨by rw [ht1]; rfl, ⟨[], by rw [hf1]; rfl⟩, by rw [hs1]; exact hrun, by rw [hs1]; simpa using hable, by rw [hs1]; simpa using halone,
      by rw [State.code?_eq, hvm1]; simp [hmeth, hcode], hplain⟩
  have hstep : (stepThread p.tables e s).1 = s1.setTop (entryFrameSync m #[.ref q] 1 q) := by
    have hfull : e.platform.stackFull (s.setFrames below).me (s.setFrames below).frames (c.maxLocals + 2) = false := by
      obtain ⟨-, h1, -, h2⟩ := State.hasRoom_stack hroom
      rw [hf, List.length_cons] at h1
      rw [State.localsInUse_invoking hf hmeth hcode] at h2
      have hw := stackUse_le_stackWeight below
      rw [State.frames_setFrames _ hcur]
      simp only [vmFrameWords] at h2
      exact Platform.stackFull_eq_false (by rw [State.stackLimits_setFrames]; omega) (by rw [State.stackLimits_setFrames]; omega)
    rw [stepThread_invoking hf, (doInvoke_java_sync (s := s.setFrames below) (e := e) (meth := meth) (code := c) (a := q) (cell := cell) hmeth hcode hlocks hst rfl q1 (Or.inl g2) hfull).1,
      State.setTop_self ht1, hlocals, hs1]
    show (((s.setFrames below).setCell q (cell.withEntry s.cur)).setFrames (.java (entryFrameSync m #[.ref q] 1 q) :: ((s.setFrames below).setCell q (cell.withEntry s.cur)).frames)) = _
    rw [show ((s.setFrames below).setCell q (cell.withEntry s.cur)).frames = below from State.frames_setFrames _ hcur, State.setCell_setFrames, State.setFrames_setFrames]
  have hcell1 : s1.heap[q]? = some (cell.withEntry s.cur) := by
    rw [hs1]
    show (s.heap.setIfInBounds q (cell.withEntry s.cur))[q]? = _
    simp [hlt]
  have X : Stand p l e (headSpec wsGC (rmc 0 0 0 0)).room (s.setCell q (cell.withEntry s.cur)) m #[.ref q] below meth c s1 [] 0 0 := by
    obtain ⟨t, ht, -⟩ := State.frames_cons hf
    refine ⟨ha, hcs, hck, hf, by rw [State.hasRoom_setCell (x := cell.withEntry s.cur) q1 rfl]; exact hroom, hhears, hmeth, hcode, hAt, by rw [hf1]; rfl,
      by rw [hvm1]; exact State.WarmedH.refl (s.setCell q (cell.withEntry s.cur)), by rw [hs1, State.stackLimits_setFrames], by rw [hs1, State.stackBytes_setFrames], ?_⟩
    have h := (State.sameButNew.refl (s.setCell q (cell.withEntry s.cur)) (x := t) ht).setFrames (.java (entryFrameSync m #[.ref q] 1 q) :: below) hcur
    rw [hs1]
    exact h
  have hexec : p.tables.exec = Jvm.exec := by cases p <;> rfl
  have hknown : (cell.withEntry s.cur).vm ≠ .unknown := by
    show cell.vm ≠ .unknown
    rw [q3]
    intro h
    cases h
  have hslot' : (cell.withEntry s.cur).slots[f.slot]? = some (va_rf r) := hslot
  have hi' : (s.setCell q (cell.withEntry s.cur)).fieldFound? "java/lang/Throwable" "cause" "Ljava/lang/Throwable;" = some (cf, kf, fi, f) := hi
  have hlink' : (Cond.fieldLink "java/lang/Throwable" 7 "java/lang/Throwable" "cause" "Ljava/lang/Throwable;").before #[.ref q] (s.setCell q (cell.withEntry s.cur)) = true := hlink
  -- the walk
  obtain ⟨vm2, X2, st2⟩ := X.getfield hexec (own := "java/lang/Throwable") hown hlink' hi' hstat hcell1 hknown hslot' (g := { method := m, pc := 1, locals := #[.val (.ref q)], stack := [.ref q], locked := some q, monitorRoom := 1 }) rfl (rest := []) rfl (by rw [hbytes]; exact gcd1)
  obtain ⟨T2, hT2⟩ : ∃ T2, T2 = s1.setVm vm2 := ⟨_, rfl⟩
  rw [← hT2] at X2 st2
  have hcell2 : T2.heap[q]? = some (cell.withEntry s.cur) := by rw [hT2]; exact hcell1
  have hh2 : T2.heap = s1.heap := by rw [hT2]; rfl
  obtain ⟨vm3, X3, st3⟩ := X2.getfield hexec (own := "java/lang/Throwable") hown hlink' hi' hstat (cell := cell.withEntry s.cur) hcell2 hknown hslot' (g := { method := m, pc := 13, locals := #[.val (.ref q)], stack := [.ref q], locked := some q, monitorRoom := 1 }) rfl (rest := []) rfl (by rw [hbytes]; exact gcd13)
  obtain ⟨T3, hT3⟩ : ∃ T3, T3 = T2.setVm vm3 := ⟨_, rfl⟩
  rw [← hT3] at X3 st3
  have hcell3 : T3.heap[q]? = some (cell.withEntry s.cur) := by rw [hT3]; exact hcell2
  have hh3 : T3.heap = s1.heap := by rw [hT3]; exact hh2
  clear hT2 hT3
  obtain ⟨fs9, cellT, hT9, hret9, hrun9, hend9, hW9, hsame9⟩ := X3.leaveSync q1 hent hlocks (v := some (va_rf r)) (fun h => by rw [hret] at h; cases h)
  have hcT : cellT = cell.withEntry s.cur := Option.some.inj (hT9.symm.trans hcell3)
  have hheap : ((T3.setCell q cellT.left).setFrames fs9).heap = s.heap := by
    rw [hcT, Cell.left_withEntry' hent]
    show T3.heap.setIfInBounds q cell = s.heap
    rw [hh3, hs1]
    show (s.heap.setIfInBounds q (cell.withEntry s.cur)).setIfInBounds q cell = s.heap
    rw [Array.setIfInBounds_setIfInBounds]
    have := State.setCell_same (s := s) q1
    exact congrArg State.heap this
  have hm3 : T3.vm.method? m = some meth := X3.method'
  have hsteps : Steps p.tables e below (s1.setTop (entryFrameSync m #[.ref q] 1 q)) ((T3.setCell q cellT.left).setFrames fs9) := by
    show Steps p.tables e below (s1.setTop { method := m, pc := 0, locals := #[.val (.ref q)], stack := [], locked := some q, monitorRoom := 1 }) _
    jvm_step X.here [X.here.top, hexec, hbytes, gcd0, Value.isRef]
    refine st2 _ ?_
    show Steps p.tables e below (T2.setTop { method := m, pc := 4, locals := #[.val (.ref q)], stack := [va_rf r], locked := some q, monitorRoom := 1 }) _
    jvm_step X2.here [X2.here.top, hexec, hbytes, gcd4, Value.isRef]
    have hafter : Steps p.tables e below (T2.setTop { method := m, pc := 12, locals := #[.val (.ref q)], stack := [], locked := some q, monitorRoom := 1 }) ((T3.setCell q cellT.left).setFrames fs9) := by
      jvm_step X2.here [X2.here.top, hexec, hbytes, gcd12, Value.isRef]
      refine st3 _ ?_
      show Steps p.tables e below (T3.setTop { method := m, pc := 16, locals := #[.val (.ref q)], stack := [va_rf r], locked := some q, monitorRoom := 1 }) _
      cases r with
      | none =>
        have hr9 : ∀ (f : JFrame) (acts : List Action), f.method = m → f.locked = some q → f.entered = [] → (doReturn e (T3.setTop f) acts (some (Value.null))).1 = (T3.setCell q cellT.left).setFrames fs9 := hret9
        jvm_step X3.here [X3.here.top, hexec, hbytes, gcd16, hm3, hret, va_rf]
        (try refine ⟨rfl, ?_⟩); (try refine ⟨rfl, ?_⟩)
        first | (intro acts; rw [hr9 _ acts rfl rfl rfl]) | rw [hr9 _ _ rfl rfl rfl]
        exact Steps.refl _
      | some q2 =>
        have hr9 : ∀ (f : JFrame) (acts : List Action), f.method = m → f.locked = some q → f.entered = [] → (doReturn e (T3.setTop f) acts (some (Value.ref q2))).1 = (T3.setCell q cellT.left).setFrames fs9 := hret9
        jvm_step X3.here [X3.here.top, hexec, hbytes, gcd16, hm3, hret, va_rf]
        (try refine ⟨rfl, ?_⟩); (try refine ⟨rfl, ?_⟩)
        first | (intro acts; rw [hr9 _ acts rfl rfl rfl]) | rw [hr9 _ _ rfl rfl rfl]
        exact Steps.refl _
    cases r with
    | none => jvm_step X2.here [X2.here.top, hexec, hbytes, gcd5, va_rf, Value.asRef?, Op.if_acmp.holds]; exact hafter
    | some q2 =>
      have hq2 : q2 ≠ q := fun h => hne (by rw [h])
      jvm_step X2.here [X2.here.top, hexec, hbytes, gcd5, va_rf, Value.asRef?, Op.if_acmp.holds, hq2]; exact hafter
  obtain ⟨n, hn, hw⟩ := Steps.head (tb := p.tables) (e := e) ⟨hrun, hable, halone⟩ ⟨[.invoking m #[.ref q]], hf, by simp, by simp⟩ (hstep ▸ hsteps)
  exact ⟨n, .returned (some (va_rf r)), hw, hn ▸ hrun9, hn ▸ hend9, Or.inl (hn ▸ ⟨⟨r, rfl, rfl, hheap⟩, [], ⟨⟨_, rfl⟩, hW9, hsame9⟩, fun q h => by cases h⟩)⟩
