/-! monitors: a failure's is free when it is made; nothing takes it but getCause, which gives it back -/
set_option maxRecDepth 100000
set_option maxHeartbeats 4000000
def MKp (H H1 : Heap) : Prop := ∀ (q : Nat) (ce : Cell), H[q]? = some ce → ∃ c1 : Cell, H1[q]? = some c1 ∧ c1.monitor = ce.monitor
def MF (H : Heap) (q : Nat) : Prop := ∃ ce : Cell, H[q]? = some ce ∧ ce.monitor.owner = none ∧ ce.monitor.count = 0
theorem MF.keep {H H1 : Heap} {q : Nat} (h : MF H q) (hk : MKp H H1) : MF H1 q := by
  obtain ⟨ce, g1, g2, g3⟩ := h
  obtain ⟨c1, e1, e2⟩ := hk q ce g1
  exact ⟨c1, e1, by rw [e2]; exact g2, by rw [e2]; exact g3⟩
theorem MKp.rf {H : Heap} : MKp H H := fun q ce h => ⟨ce, h, rfl⟩
theorem MKp.tr {H H1 H2 : Heap} (h1 : MKp H H1) (h2 : MKp H1 H2) : MKp H H2 := fun q ce h => by
  obtain ⟨c1, e1, e2⟩ := h1 q ce h
  obtain ⟨c2, e3, e4⟩ := h2 q c1 e1
  exact ⟨c2, e3, e4.trans e2⟩
theorem MKp.of {s t : State} {L : List Loc} {k n : Nat} (h : s.sameButNew ({ t with vm := s.vm } : State) L k n) : MKp s.heap t.heap := fun q ce hq => by
  obtain ⟨-, -, -, -, -, h6⟩ := h
  obtain ⟨c', e1, e2, -⟩ := h6 q ce hq
  exact ⟨c', e1, by rw [e2]⟩
/-- the failures of w: those of w0, and others whose monitors are free -/
def MN (w0 w : va_W) (H : Heap) : Prop := ∀ (q c : Nat) (fs : List Value), (q, (.inr (c, fs) : va_E)) ∈ w → 10 ≤ c ∧ c ≤ 15 → (q, (.inr (c, fs) : va_E)) ∈ w0 ∨ MF H q
theorem MN.rf {w : va_W} {H : Heap} : MN w w H := fun _ _ _ h _ => Or.inl h
theorem MN.keep {w0 w : va_W} {H H1 : Heap} (h : MN w0 w H) (hk : MKp H H1) : MN w0 w H1 := fun q c fs h1 h2 => (h q c fs h1 h2).imp id (fun x => x.keep hk)
theorem MN.tr {w0 w1 w2 : va_W} {H : Heap} (h : MN w0 w1 H) (h2 : MN w1 w2 H) : MN w0 w2 H := fun q c fs h3 h4 => (h2 q c fs h3 h4).elim (fun x => h q c fs x h4) Or.inr
theorem MN.cons {w0 w : va_W} {H : Heap} {q : Nat} {e : va_E} (hq : MF H q) (h : MN w0 w H) : MN w0 ((q, e) :: w) H := fun q1 c fs h1 h2 => by
  rcases List.mem_cons.mp h1 with h3 | h3
  · cases h3; exact Or.inr hq
  · exact h q1 c fs h3 h2
theorem MN.sub {w0 w w2 : va_W} {H : Heap} (h : MN w0 w H) (hs : ∀ (q c : Nat) (fs : List Value), (q, (.inr (c, fs) : va_E)) ∈ w2 → 10 ≤ c ∧ c ≤ 15 → (q, (.inr (c, fs) : va_E)) ∈ w) : MN w0 w2 H := fun q c fs h1 h2 => h q c fs (hs q c fs h1 h2) h2
section KP
variable {l : Launch} {y : MethodName} {ws : List Cond} {rm : Room} {Pc : Array Value → State → Prop} {mc ms : Nat} {free : Addr → Prop} {A1 : Nat → Prop}
theorem keI {S : Type} {post : Int32 → S → Prop} {B : S → State → Prop} (h : Met l y ws rm Pc (va_Qi post B A1) mc ms free) (H0 : Heap) : Met l y ws rm (fun a U => Pc a U ∧ U.heap = H0) (va_Qi post (fun u t => B u t ∧ MKp H0 t.heap) A1) mc ms free := by
  intro p e ha hc hk s m args below hf happ hP hK
  obtain ⟨n, o, a1, a2, a3, ⟨⟨r, u, b1, b2, b3⟩, b4⟩, L, hF, hL⟩ := h p e ha hc hk s m args below hf happ hP.1 hK
  exact ⟨n, o, a1, a2, a3, ⟨⟨r, u, b1, b2, b3, by rw [← hP.2]; exact MKp.of hF.2.2⟩, b4⟩, L, hF, hL⟩
theorem keV {S : Type} {post : S → Prop} {B : S → State → Prop} (h : Met l y ws rm Pc (va_Qv post B A1) mc ms free) (H0 : Heap) : Met l y ws rm (fun a U => Pc a U ∧ U.heap = H0) (va_Qv post (fun u t => B u t ∧ MKp H0 t.heap) A1) mc ms free := by
  intro p e ha hc hk s m args below hf happ hP hK
  obtain ⟨n, o, a1, a2, a3, ⟨⟨u, b1, b2, b3⟩, b4⟩, L, hF, hL⟩ := h p e ha hc hk s m args below hf happ hP.1 hK
  exact ⟨n, o, a1, a2, a3, ⟨⟨u, b1, b2, b3, by rw [← hP.2]; exact MKp.of hF.2.2⟩, b4⟩, L, hF, hL⟩
theorem keR {S : Type} {post : S → Prop} {B : S → Nat → State → Prop} (h : Met l y ws rm Pc (va_Qr post B A1) mc ms free) (H0 : Heap) : Met l y ws rm (fun a U => Pc a U ∧ U.heap = H0) (va_Qr post (fun u q t => B u q t ∧ MKp H0 t.heap) A1) mc ms free := by
  intro p e ha hc hk s m args below hf happ hP hK
  obtain ⟨n, o, a1, a2, a3, ⟨⟨u, q, b1, b2, b3⟩, b4⟩, L, hF, hL⟩ := h p e ha hc hk s m args below hf happ hP.1 hK
  exact ⟨n, o, a1, a2, a3, ⟨⟨u, q, b1, b2, b3, by rw [← hP.2]; exact MKp.of hF.2.2⟩, b4⟩, L, hF, hL⟩
theorem kbl {H0 : Heap} (h : FrameBlind Pc) : FrameBlind (fun a U => Pc a U ∧ U.heap = H0) := fun a U g mk hp => ⟨h a U g mk hp.1, hp.2⟩
end KP
section KX
variable {l : Launch} {y : MethodName} {ws : List Cond} {rm : Room} {Pc : Array Value → State → Prop} {mc ms : Nat} {free : Addr → Prop} {A1 AX : Nat → Prop}
theorem kxI {S SX : Type} {post : Int32 → S → Prop} {B : S → State → Prop} {px : SX → Prop} {BX : Addr → String → SX → State → Prop} (h : vx_Met l y ws rm Pc (va_Qi post B A1) (vx_X px BX AX) mc ms free) (H0 : Heap) : vx_Met l y ws rm (fun a U => Pc a U ∧ U.heap = H0) (va_Qi post (fun u t => B u t ∧ MKp H0 t.heap) A1) (vx_X px (fun q E u t => BX q E u t ∧ MKp H0 t.heap) AX) mc ms free := by
  intro p e ha hc hk s m args below hf happ hP hK
  obtain ⟨n, o, a1, a2, a3, hq⟩ := h p e ha hc hk s m args below hf happ hP.1 hK
  refine ⟨n, o, a1, a2, a3, ?_⟩
  rcases hq with ⟨⟨⟨r, u, b1, b2, b3⟩, b4⟩, L, hF, hL⟩ | ⟨q, ho, E, ce, L, ⟨u, c1, c2, c3⟩, d1, d2, d3, d4, d5, d6⟩
  · exact Or.inl ⟨⟨⟨r, u, b1, b2, b3, by rw [← hP.2]; exact MKp.of hF.2.2⟩, b4⟩, L, hF, hL⟩
  · exact Or.inr ⟨q, ho, E, ce, L, ⟨u, c1, ⟨c2, by rw [← hP.2]; exact MKp.of d5⟩, c3⟩, d1, d2, d3, d4, d5, d6⟩
theorem kxV {S SX : Type} {post : S → Prop} {B : S → State → Prop} {px : SX → Prop} {BX : Addr → String → SX → State → Prop} (h : vx_Met l y ws rm Pc (va_Qv post B A1) (vx_X px BX AX) mc ms free) (H0 : Heap) : vx_Met l y ws rm (fun a U => Pc a U ∧ U.heap = H0) (va_Qv post (fun u t => B u t ∧ MKp H0 t.heap) A1) (vx_X px (fun q E u t => BX q E u t ∧ MKp H0 t.heap) AX) mc ms free := by
  intro p e ha hc hk s m args below hf happ hP hK
  obtain ⟨n, o, a1, a2, a3, hq⟩ := h p e ha hc hk s m args below hf happ hP.1 hK
  refine ⟨n, o, a1, a2, a3, ?_⟩
  rcases hq with ⟨⟨⟨u, b1, b2, b3⟩, b4⟩, L, hF, hL⟩ | ⟨q, ho, E, ce, L, ⟨u, c1, c2, c3⟩, d1, d2, d3, d4, d5, d6⟩
  · exact Or.inl ⟨⟨⟨u, b1, b2, b3, by rw [← hP.2]; exact MKp.of hF.2.2⟩, b4⟩, L, hF, hL⟩
  · exact Or.inr ⟨q, ho, E, ce, L, ⟨u, c1, ⟨c2, by rw [← hP.2]; exact MKp.of d5⟩, c3⟩, d1, d2, d3, d4, d5, d6⟩
end KX
section
variable {p : Program} {l : Launch} {e : Env} {R : Room} {s : State} {m : MethodId} {args : Array Value} {below : List Frame} {meth : Method} {c : Code} {H : Heap} {locs : List Loc} {cells slots : Nat} {Q : State → Prop}
variable {pc : Nat} {ls : Array Slot} {rest st0 : List Value} {A : Nat → Prop} {cc bytes : ByteArray} {nL maxL n index mc ms : Nat} {own C : String} {y : MethodName} {ret : Option FieldType} {ws : List Cond} {rm : Room} {D : va_G} {d : Nat → ClassId} {z : ZT} {av : List Value} {a : Array Value} {w wc wr wc' tl w' : va_W} {isC isR perm : List Nat}
theorem run_iM {r : Int32} {E9 : Heap → Prop} (hr : va_Run p l e R s m args below meth c H locs cells slots mc ms (F0 m pc ls st0) rest (va_Qi (fun (r1 : Int32) (_ : Unit) => r1 = r) (fun _ t => Bw D (va_A wc H.size) wc' t ∧ E9 t.heap) (va_A wc H.size) a) (va_A wc H.size)) (hP : va_P D CL (w ++ tl) H) (hD : va_D A (w ++ tl)) (hS : va_S A s.heap H locs) (hA : ∀ q, s.heap.size ≤ q → A q) (isC isR perm : List Nat) (hC : isC.map (fun i => w[i]?) = wc.map some) (hnC : va_nd isC = true) (hR : isR.map (fun i => w[i]?) = wr.map some) (hn : va_nd isR = true) (hdis : ∀ i ∈ isR, i ∉ isC) (hnp : va_nd perm = true) (hw : perm.map (fun i => (wr ++ wc')[i]?) = w'.map some)
    (kk : ∀ (H1 : Heap) (locs1 : List Loc), va_P D CL (w' ++ tl) H1 → va_D A (w' ++ tl) → va_S A s.heap H1 locs1 → E9 H1 → W p l e R s m args below meth c H1 locs1 (cells + mc) (slots + ms) Q (F0 m (pc + 3) ls (.int r :: rest))) : W p l e R s m args below meth c H locs cells slots Q (F0 m pc ls st0) := by
  have hF := cut_free hD hS hA hC hnC
  refine va_calli hr hS (fun q _ h => hF q h) hF (fun r1 u t H1 locs1 ht hvm hp hB9 hz hk hS1 => ?_)
  obtain ⟨hB, hE9⟩ := hB9
  subst hp
  obtain ⟨b1, b2⟩ := cut_join hP hD hC hR hn hdis hnp hw hk hF (by rw [← ht]; exact hB.1) hB.2
  exact kk H1 locs1 b1 b2 hS1 (by rw [← ht]; exact hE9)
end
section
variable {p : Program} {l : Launch} {e : Env} {R : Room} {s : State} {m : MethodId} {args : Array Value} {below : List Frame} {meth : Method} {c : Code} {H : Heap} {locs : List Loc} {cells slots : Nat} {Q : State → Prop}
variable {pc : Nat} {ls : Array Slot} {rest st0 : List Value} {A : Nat → Prop} {cc bytes : ByteArray} {nL maxL n index mc ms : Nat} {own C : String} {y : MethodName} {ret : Option FieldType} {ws : List Cond} {rm : Room} {D : va_G} {d : Nat → ClassId} {z : ZT} {av : List Value} {a : Array Value} {w wc wr wc' tl w' : va_W} {isC isR perm : List Nat}
theorem run_vSM {S : Type} {φ : S → Prop} {wc' : S → va_W} {w' : S → va_W} {E9 : S → Heap → Prop} (hr : va_Run p l e R s m args below meth c H locs cells slots mc ms (F0 m pc ls st0) rest (va_Qv (fun (u : S) => φ u) (fun u t => Bw D (va_A wc H.size) (wc' u) t ∧ E9 u t.heap) (va_A wc H.size) a) (va_A wc H.size)) (hP : va_P D CL (w ++ tl) H) (hD : va_D A (w ++ tl)) (hS : va_S A s.heap H locs) (hA : ∀ q, s.heap.size ≤ q → A q) (isC isR perm : List Nat) (hC : isC.map (fun i => w[i]?) = wc.map some) (hnC : va_nd isC = true) (hR : isR.map (fun i => w[i]?) = wr.map some) (hn : va_nd isR = true) (hdis : ∀ i ∈ isR, i ∉ isC) (hnp : va_nd perm = true) (hw : ∀ u, perm.map (fun i => (wr ++ wc' u)[i]?) = (w' u).map some)
    (kk : ∀ (u : S), φ u → ∀ (H1 : Heap) (locs1 : List Loc), va_P D CL (w' u ++ tl) H1 → va_D A (w' u ++ tl) → va_S A s.heap H1 locs1 → E9 u H1 → W p l e R s m args below meth c H1 locs1 (cells + mc) (slots + ms) Q (F0 m (pc + 3) ls rest)) : W p l e R s m args below meth c H locs cells slots Q (F0 m pc ls st0) := by
  have hF := cut_free hD hS hA hC hnC
  refine va_callv hr hS (fun q _ h => hF q h) hF (fun u t H1 locs1 ht hvm hp hB9 hz hk hS1 => ?_)
  obtain ⟨hB, hE9⟩ := hB9
  obtain ⟨b1, b2⟩ := cut_join hP hD hC hR hn hdis hnp (hw u) hk hF (by rw [← ht]; exact hB.1) hB.2
  exact kk u hp H1 locs1 b1 b2 hS1 (by rw [← ht]; exact hE9)
end
section
variable {p : Program} {l : Launch} {e : Env} {R : Room} {s : State} {m : MethodId} {args : Array Value} {below : List Frame} {meth : Method} {c : Code} {H : Heap} {locs : List Loc} {cells slots : Nat} {Q : State → Prop}
variable {pc : Nat} {ls : Array Slot} {rest st0 : List Value} {A : Nat → Prop} {cc bytes : ByteArray} {nL maxL n index mc ms : Nat} {own C : String} {y : MethodName} {ret : Option FieldType} {ws : List Cond} {rm : Room} {D : va_G} {d : Nat → ClassId} {z : ZT} {av : List Value} {a : Array Value} {w wc wr wc' tl w' : va_W} {isC isR perm : List Nat}
theorem run_rSM {S : Type} {r : S → Nat} {φ : S → Prop} {wc' : S → va_W} {w' : S → va_W} {E9 : S → Heap → Prop} (hr : va_Run p l e R s m args below meth c H locs cells slots mc ms (F0 m pc ls st0) rest (va_Qr (fun (u : S) => φ u) (fun u a t => (a = r u ∧ Bw D (va_A wc H.size) (wc' u) t) ∧ E9 u t.heap) (va_A wc H.size) a) (va_A wc H.size)) (hP : va_P D CL (w ++ tl) H) (hD : va_D A (w ++ tl)) (hS : va_S A s.heap H locs) (hA : ∀ q, s.heap.size ≤ q → A q) (isC isR perm : List Nat) (hC : isC.map (fun i => w[i]?) = wc.map some) (hnC : va_nd isC = true) (hR : isR.map (fun i => w[i]?) = wr.map some) (hn : va_nd isR = true) (hdis : ∀ i ∈ isR, i ∉ isC) (hnp : va_nd perm = true) (hw : ∀ u, perm.map (fun i => (wr ++ wc' u)[i]?) = (w' u).map some)
    (kk : ∀ (u : S), φ u → ∀ (H1 : Heap) (locs1 : List Loc), va_P D CL (w' u ++ tl) H1 → va_D A (w' u ++ tl) → va_S A s.heap H1 locs1 → E9 u H1 → W p l e R s m args below meth c H1 locs1 (cells + mc) (slots + ms) Q (F0 m (pc + 3) ls (.ref (r u) :: rest))) : W p l e R s m args below meth c H locs cells slots Q (F0 m pc ls st0) := by
  have hF := cut_free hD hS hA hC hnC
  refine va_callr hr hS (fun q _ h => hF q h) hF (fun u a1 t H1 locs1 ht hvm hp hB9 hz hk hS1 => ?_)
  obtain ⟨hB, hE9⟩ := hB9
  obtain ⟨rfl, hB⟩ := hB
  obtain ⟨b1, b2⟩ := cut_join hP hD hC hR hn hdis hnp (hw u) hk hF (by rw [← ht]; exact hB.1) hB.2
  exact kk u hp H1 locs1 b1 b2 hS1 (by rw [← ht]; exact hE9)
end
section
variable {p : Program} {l : Launch} {e : Env} {R : Room} {s : State} {m : MethodId} {args : Array Value} {below : List Frame} {meth : Method} {c : Code} {H : Heap} {locs : List Loc} {cells slots : Nat} {Q : State → Prop}
variable {pc : Nat} {ls : Array Slot} {rest st0 : List Value} {A : Nat → Prop} {cc bytes : ByteArray} {nL maxL n index mc ms : Nat} {own C : String} {y : MethodName} {ret : Option FieldType} {ws : List Cond} {rm : Room} {D : va_G} {d : Nat → ClassId} {z : ZT} {av : List Value} {a : Array Value} {w wc wr wc' tl w' : va_W} {isC isR perm : List Nat}
theorem run_iSM {S : Type} {r : S → Int32} {φ : S → Prop} {wc' : S → va_W} {w' : S → va_W} {E9 : S → Heap → Prop} (hr : va_Run p l e R s m args below meth c H locs cells slots mc ms (F0 m pc ls st0) rest (va_Qi (fun (r1 : Int32) (u : S) => r1 = r u ∧ φ u) (fun u t => Bw D (va_A wc H.size) (wc' u) t ∧ E9 u t.heap) (va_A wc H.size) a) (va_A wc H.size)) (hP : va_P D CL (w ++ tl) H) (hD : va_D A (w ++ tl)) (hS : va_S A s.heap H locs) (hA : ∀ q, s.heap.size ≤ q → A q) (isC isR perm : List Nat) (hC : isC.map (fun i => w[i]?) = wc.map some) (hnC : va_nd isC = true) (hR : isR.map (fun i => w[i]?) = wr.map some) (hn : va_nd isR = true) (hdis : ∀ i ∈ isR, i ∉ isC) (hnp : va_nd perm = true) (hw : ∀ u, perm.map (fun i => (wr ++ wc' u)[i]?) = (w' u).map some)
    (kk : ∀ (u : S), φ u → ∀ (H1 : Heap) (locs1 : List Loc), va_P D CL (w' u ++ tl) H1 → va_D A (w' u ++ tl) → va_S A s.heap H1 locs1 → E9 u H1 → W p l e R s m args below meth c H1 locs1 (cells + mc) (slots + ms) Q (F0 m (pc + 3) ls (.int (r u) :: rest))) : W p l e R s m args below meth c H locs cells slots Q (F0 m pc ls st0) := by
  have hF := cut_free hD hS hA hC hnC
  refine va_calli hr hS (fun q _ h => hF q h) hF (fun r1 u t H1 locs1 ht hvm hp hB9 hz hk hS1 => ?_)
  obtain ⟨hB, hE9⟩ := hB9
  obtain ⟨rfl, hφ⟩ := hp
  obtain ⟨b1, b2⟩ := cut_join hP hD hC hR hn hdis hnp (hw u) hk hF (by rw [← ht]; exact hB.1) hB.2
  exact kk u hφ H1 locs1 b1 b2 hS1 (by rw [← ht]; exact hE9)
end
section
variable {p : Program} {l : Launch} {e : Env} {R : Room} {s : State} {m : MethodId} {args : Array Value} {below : List Frame} {meth : Method} {c : Code} {H : Heap} {locs : List Loc} {cells slots : Nat} {Q : State → Prop}
variable {pc : Nat} {ls : Array Slot} {rest st0 : List Value} {A : Nat → Prop} {cc bytes : ByteArray} {nL maxL n index mc ms : Nat} {own C : String} {y : MethodName} {ret : Option FieldType} {ws : List Cond} {rm : Room} {D : va_G} {d : Nat → ClassId} {z : ZT} {av : List Value} {a : Array Value} {w wc wr wc' tl w' : va_W} {isC isR perm : List Nat} {o ci : Nat} {fs : List Value} {T : u_T} {N : Nat}
theorem runW_iM {r : Int32} {E9 : Heap → Prop} (hr : va_Run p l e R s m args below meth c H locs cells slots mc ms (F0 m pc ls st0) rest (va_Qi (fun (r1 : Int32) (_ : Unit) => r1 = r) (fun _ t => Bw D (va_A w H.size) wc' t ∧ E9 t.heap) (va_A w H.size) a) (va_A w H.size)) (hP : va_P D CL w H) (hD : va_D A w) (hS : va_S A s.heap H locs) (hA : ∀ q, s.heap.size ≤ q → A q)
    (kk : ∀ (H1 : Heap) (locs1 : List Loc), va_P D CL (wc') H1 → va_D A (wc') → va_S A s.heap H1 locs1 → E9 H1 → W p l e R s m args below meth c H1 locs1 (cells + mc) (slots + ms) Q (F0 m (pc + 3) ls (.int r :: rest))) : W p l e R s m args below meth c H locs cells slots Q (F0 m pc ls st0) := by
  have hF := va_freeAll hD hS hA
  refine va_calli hr hS (fun q _ h => hF q h) hF (fun r1 u t H1 locs1 ht hvm hp hB9 hz hk hS1 => ?_)
  obtain ⟨hB, hE9⟩ := hB9
  subst hp
  exact kk H1 locs1 (by rw [← ht]; exact hB.1) (hB.2.weaken (fun _ q _ h => hF q.1 h)) hS1 (by rw [← ht]; exact hE9)
end
section
variable {p : Program} {l : Launch} {e : Env} {R : Room} {s : State} {m : MethodId} {args : Array Value} {below : List Frame} {meth : Method} {c : Code} {H : Heap} {locs : List Loc} {cells slots : Nat} {Q : State → Prop}
variable {pc : Nat} {ls : Array Slot} {rest st0 : List Value} {A : Nat → Prop} {cc bytes : ByteArray} {nL maxL n index mc ms : Nat} {own C : String} {y : MethodName} {ret : Option FieldType} {ws : List Cond} {rm : Room} {D : va_G} {d : Nat → ClassId} {z : ZT} {av : List Value} {a : Array Value} {w wc wr wc' tl w' : va_W} {isC isR perm : List Nat} {o ci : Nat} {fs : List Value} {T : u_T} {N : Nat}
theorem runW_iSM {S : Type} {φ : S → Prop} {wc' : S → va_W} {r : S → Int32} {E9 : S → Heap → Prop} (hr : va_Run p l e R s m args below meth c H locs cells slots mc ms (F0 m pc ls st0) rest (va_Qi (fun (r1 : Int32) (u : S) => r1 = r u ∧ φ u) (fun u t => Bw D (va_A w H.size) (wc' u) t ∧ E9 u t.heap) (va_A w H.size) a) (va_A w H.size)) (hP : va_P D CL w H) (hD : va_D A w) (hS : va_S A s.heap H locs) (hA : ∀ q, s.heap.size ≤ q → A q)
    (kk : ∀ (u : S), φ u → ∀ (H1 : Heap) (locs1 : List Loc), va_P D CL (wc' u) H1 → va_D A (wc' u) → va_S A s.heap H1 locs1 → E9 u H1 → W p l e R s m args below meth c H1 locs1 (cells + mc) (slots + ms) Q (F0 m (pc + 3) ls (.int (r u) :: rest))) : W p l e R s m args below meth c H locs cells slots Q (F0 m pc ls st0) := by
  have hF := va_freeAll hD hS hA
  refine va_calli hr hS (fun q _ h => hF q h) hF (fun r1 u t H1 locs1 ht hvm hp hB9 hz hk hS1 => ?_)
  obtain ⟨hB, hE9⟩ := hB9
  obtain ⟨rfl, hφ⟩ := hp
  exact kk u hφ H1 locs1 (by rw [← ht]; exact hB.1) (hB.2.weaken (fun _ q _ h => hF q.1 h)) hS1 (by rw [← ht]; exact hE9)
end
section
variable {p : Program} {l : Launch} {e : Env} {R : Room} {s : State} {m : MethodId} {args : Array Value} {below : List Frame} {meth : Method} {c : Code} {H : Heap} {locs : List Loc} {cells slots : Nat} {Q : State → Prop}
variable {pc : Nat} {ls : Array Slot} {rest st0 : List Value} {A : Nat → Prop} {cc bytes : ByteArray} {nL maxL n index mc ms : Nat} {own C : String} {y : MethodName} {ret : Option FieldType} {ws : List Cond} {rm : Room} {D : va_G} {d : Nat → ClassId} {z : ZT} {av : List Value} {a : Array Value} {w wc wr wc' tl w' : va_W} {isC isR perm : List Nat} {o ci : Nat} {fs : List Value} {T : u_T} {N : Nat}
theorem runW_vSM {S : Type} {φ : S → Prop} {wc' : S → va_W} {E9 : S → Heap → Prop} (hr : va_Run p l e R s m args below meth c H locs cells slots mc ms (F0 m pc ls st0) rest (va_Qv (fun (u : S) => φ u) (fun u t => Bw D (va_A w H.size) (wc' u) t ∧ E9 u t.heap) (va_A w H.size) a) (va_A w H.size)) (hP : va_P D CL w H) (hD : va_D A w) (hS : va_S A s.heap H locs) (hA : ∀ q, s.heap.size ≤ q → A q)
    (kk : ∀ (u : S), φ u → ∀ (H1 : Heap) (locs1 : List Loc), va_P D CL (wc' u) H1 → va_D A (wc' u) → va_S A s.heap H1 locs1 → E9 u H1 → W p l e R s m args below meth c H1 locs1 (cells + mc) (slots + ms) Q (F0 m (pc + 3) ls (rest))) : W p l e R s m args below meth c H locs cells slots Q (F0 m pc ls st0) := by
  have hF := va_freeAll hD hS hA
  refine va_callv hr hS (fun q _ h => hF q h) hF (fun u t H1 locs1 ht hvm hp hB9 hz hk hS1 => ?_)
  obtain ⟨hB, hE9⟩ := hB9
  have hφ := hp
  exact kk u hφ H1 locs1 (by rw [← ht]; exact hB.1) (hB.2.weaken (fun _ q _ h => hF q.1 h)) hS1 (by rw [← ht]; exact hE9)
end
section
variable {p : Program} {l : Launch} {e : Env} {R : Room} {s : State} {m : MethodId} {args : Array Value} {below : List Frame} {meth : Method} {c : Code} {H : Heap} {locs : List Loc} {cells slots : Nat} {Q : State → Prop}
variable {pc : Nat} {ls : Array Slot} {rest st0 : List Value} {A : Nat → Prop} {cc bytes : ByteArray} {nL maxL n index mc ms : Nat} {own C : String} {y : MethodName} {ret : Option FieldType} {ws : List Cond} {rm : Room} {D : va_G} {d : Nat → ClassId} {z : ZT} {av : List Value} {a : Array Value} {w wc wr wc' tl w' : va_W} {isC isR perm : List Nat} {o ci : Nat} {fs : List Value} {T : u_T} {N : Nat}
theorem runW_rSM {S : Type} {φ : S → Prop} {wc' : S → va_W} {r : S → Nat} {E9 : S → Heap → Prop} (hr : va_Run p l e R s m args below meth c H locs cells slots mc ms (F0 m pc ls st0) rest (va_Qr (fun (u : S) => φ u) (fun u a t => (a = r u ∧ Bw D (va_A w H.size) (wc' u) t) ∧ E9 u t.heap) (va_A w H.size) a) (va_A w H.size)) (hP : va_P D CL w H) (hD : va_D A w) (hS : va_S A s.heap H locs) (hA : ∀ q, s.heap.size ≤ q → A q)
    (kk : ∀ (u : S), φ u → ∀ (H1 : Heap) (locs1 : List Loc), va_P D CL (wc' u) H1 → va_D A (wc' u) → va_S A s.heap H1 locs1 → E9 u H1 → W p l e R s m args below meth c H1 locs1 (cells + mc) (slots + ms) Q (F0 m (pc + 3) ls (.ref (r u) :: rest))) : W p l e R s m args below meth c H locs cells slots Q (F0 m pc ls st0) := by
  have hF := va_freeAll hD hS hA
  refine va_callr hr hS (fun q _ h => hF q h) hF (fun u a1 t H1 locs1 ht hvm hp hB9 hz hk hS1 => ?_)
  obtain ⟨hB, hE9⟩ := hB9
  obtain ⟨rfl, hB⟩ := hB; have hφ := hp
  exact kk u hφ H1 locs1 (by rw [← ht]; exact hB.1) (hB.2.weaken (fun _ q _ h => hF q.1 h)) hS1 (by rw [← ht]; exact hE9)
end
section
variable {p : Program} {l : Launch} {e : Env} {R : Room} {s : State} {m : MethodId} {args : Array Value} {below : List Frame} {meth : Method} {c : Code} {H : Heap} {locs : List Loc} {cells slots : Nat} {Q : State → Prop}
variable {pc : Nat} {ls : Array Slot} {rest st0 : List Value} {A : Nat → Prop} {cc bytes : ByteArray} {nL maxL n index mc ms : Nat} {own C : String} {y : MethodName} {ret : Option FieldType} {ws : List Cond} {rm : Room} {D : va_G} {d : Nat → ClassId} {z : ZT} {av : List Value} {a : Array Value} {w wc wr wc' tl w' : va_W} {isC isR perm : List Nat} {o ci : Nat} {fs : List Value} {T : u_T} {N : Nat}
theorem runX_vSM {wA wB : va_W} {S : Type} {φ : S → Prop} {wA' tl' : S → va_W} {E9 : S → Heap → Prop} (hr : va_Run p l e R s m args below meth c H locs cells slots mc ms (F0 m pc ls st0) rest (va_Qv (fun (u : S) => φ u) (fun u t => Bw D (va_A (wA ++ tl) H.size) (wA' u ++ tl' u) t ∧ E9 u t.heap) (va_A (wA ++ tl) H.size) a) (va_A (wA ++ tl) H.size)) (hP : va_P D CL ((wA ++ wB) ++ tl) H) (hD : va_D A ((wA ++ wB) ++ tl)) (hS : va_S A s.heap H locs) (hA : ∀ q, s.heap.size ≤ q → A q)
    (kk : ∀ (u : S), φ u → ∀ (H1 : Heap) (locs1 : List Loc), va_P D CL ((wA' u ++ wB) ++ tl' u) H1 → va_D A ((wA' u ++ wB) ++ tl' u) → va_S A s.heap H1 locs1 → E9 u H1 → W p l e R s m args below meth c H1 locs1 (cells + mc) (slots + ms) Q (F0 m (pc + 3) ls (rest))) : W p l e R s m args below meth c H locs cells slots Q (F0 m pc ls st0) := by
  have hP2 := wP_perm perm3 hP
  have hD2 := wD_perm perm3 hD
  have hD3 : va_D A (wA ++ tl) := wD_iff.mpr ⟨by
    have := (wD_iff.mp hD2).1
    rw [List.map_append] at this
    exact (List.nodup_append.mp this).1, fun q hq => (wD_iff.mp hD2).2 q (List.mem_append_left _ hq)⟩
  have hF := va_freeAll hD3 hS hA
  refine va_callv hr hS (fun q _ h => hF q h) hF (fun u t H1 locs1 ht hvm hp hB9 hz hk hS1 => ?_)
  obtain ⟨hB, hE9⟩ := hB9
  have hφ := hp
  obtain ⟨b1, b2⟩ := frame_join hP2 hD2 hk hF (by rw [← ht]; exact hB.1) hB.2
  exact kk u hφ H1 locs1 (wP_perm perm3.symm b1) (wD_perm perm3.symm b2) hS1 (by rw [← ht]; exact hE9)
end
section
variable {p : Program} {l : Launch} {e : Env} {R : Room} {s : State} {m : MethodId} {args : Array Value} {below : List Frame} {meth : Method} {c : Code} {H : Heap} {locs : List Loc} {cells slots : Nat} {Q : State → Prop}
variable {pc mc ms : Nat} {ls : Array Slot} {rest st0 : List Value} {A : Nat → Prop} {D : va_G} {a : Array Value} {w : va_W}
theorem runT_vM {S S' : Type} {φ : S → Prop} {w' : S → va_W} {ex : S' → Nat × Nat} {wx : S' → va_W} {ψ : S' → Prop} {E9 : S → Heap → Prop} {X9 : S' → Heap → Prop} (hr : vx_Run p l e R s m args below meth c H locs cells slots mc ms (F0 m pc ls st0) rest (va_Qv (fun (u : S) => φ u) (fun u t => Bw D (va_A w H.size) (w' u) t ∧ E9 u t.heap) (va_A w H.size) a) (vx_X ψ (fun q E u t => BXq D (va_A w H.size) ex wx q E u t ∧ X9 u t.heap) (va_A w H.size)) (va_A w H.size)) (hP : va_P D CL w H) (hD : va_D A w) (hS : va_S A s.heap H locs) (hA : ∀ q, s.heap.size ≤ q → A q)
    (kx : ∀ (u : S'), ψ u → ∀ (H1 : Heap) (locs1 : List Loc), va_P D CL (wx u) H1 → va_D A (wx u) → va_S A s.heap H1 locs1 → X9 u H1 → (∃ fs, ((ex u).2, (.inr ((ex u).1, fs) : va_E)) ∈ wx u) → vx_W p l e R s m args below meth c H1 locs1 (cells + mc) (slots + ms) Q (F0 m pc ls rest) (ex u).2)
    (kk : ∀ (u : S), φ u → ∀ (H1 : Heap) (locs1 : List Loc), va_P D CL (w' u) H1 → va_D A (w' u) → va_S A s.heap H1 locs1 → E9 u H1 → W p l e R s m args below meth c H1 locs1 (cells + mc) (slots + ms) Q (F0 m (pc + 3) ls rest)) : W p l e R s m args below meth c H locs cells slots Q (F0 m pc ls st0) := by
  have hF := va_freeAll hD hS hA
  refine vx_callv hr hS (fun q _ h => hF q h) hF (fun q _ h => hF q h) (fun E ce q9 u t H1 locs1 ht hvm hp hB hz hk hS1 g1 g2 g3 => ?_) (fun u t H1 locs1 ht hvm hp hB hz hk hS1 => ?_)
  · obtain ⟨⟨rfl, -, hm, hB⟩, hX9⟩ := hB
    exact kx u hp H1 locs1 (by rw [← ht]; exact hB.1) (hB.2.weaken (fun _ q _ h => hF q.1 h)) hS1 (by rw [← ht]; exact hX9) hm
  · obtain ⟨hB, hE9⟩ := hB
    exact kk u hp H1 locs1 (by rw [← ht]; exact hB.1) (hB.2.weaken (fun _ q _ h => hF q.1 h)) hS1 (by rw [← ht]; exact hE9)
end
section
variable {p : Program} {l : Launch} {e : Env} {R : Room} {s : State} {m : MethodId} {args : Array Value} {below : List Frame} {meth : Method} {c : Code} {H : Heap} {locs : List Loc} {cells slots : Nat} {Q : State → Prop}
variable {pc mc ms : Nat} {ls : Array Slot} {rest st0 : List Value} {A : Nat → Prop} {D : va_G} {a : Array Value} {w : va_W}
theorem runT_iM {S S' : Type} {φ : S → Prop} {r : S → Int32} {w' : S → va_W} {ex : S' → Nat × Nat} {wx : S' → va_W} {ψ : S' → Prop} {E9 : S → Heap → Prop} {X9 : S' → Heap → Prop} (hr : vx_Run p l e R s m args below meth c H locs cells slots mc ms (F0 m pc ls st0) rest (va_Qi (fun (r1 : Int32) (u : S) => r1 = r u ∧ φ u) (fun u t => Bw D (va_A w H.size) (w' u) t ∧ E9 u t.heap) (va_A w H.size) a) (vx_X ψ (fun q E u t => BXq D (va_A w H.size) ex wx q E u t ∧ X9 u t.heap) (va_A w H.size)) (va_A w H.size)) (hP : va_P D CL w H) (hD : va_D A w) (hS : va_S A s.heap H locs) (hA : ∀ q, s.heap.size ≤ q → A q)
    (kx : ∀ (u : S'), ψ u → ∀ (H1 : Heap) (locs1 : List Loc), va_P D CL (wx u) H1 → va_D A (wx u) → va_S A s.heap H1 locs1 → X9 u H1 → (∃ fs, ((ex u).2, (.inr ((ex u).1, fs) : va_E)) ∈ wx u) → vx_W p l e R s m args below meth c H1 locs1 (cells + mc) (slots + ms) Q (F0 m pc ls rest) (ex u).2)
    (kk : ∀ (u : S), φ u → ∀ (H1 : Heap) (locs1 : List Loc), va_P D CL (w' u) H1 → va_D A (w' u) → va_S A s.heap H1 locs1 → E9 u H1 → W p l e R s m args below meth c H1 locs1 (cells + mc) (slots + ms) Q (F0 m (pc + 3) ls (.int (r u) :: rest))) : W p l e R s m args below meth c H locs cells slots Q (F0 m pc ls st0) := by
  have hF := va_freeAll hD hS hA
  refine vx_calli hr hS (fun q _ h => hF q h) hF (fun q _ h => hF q h) (fun E ce q9 u t H1 locs1 ht hvm hp hB hz hk hS1 g1 g2 g3 => ?_) (fun r1 u t H1 locs1 ht hvm hp hB hz hk hS1 => ?_)
  · obtain ⟨⟨rfl, -, hm, hB⟩, hX9⟩ := hB
    exact kx u hp H1 locs1 (by rw [← ht]; exact hB.1) (hB.2.weaken (fun _ q _ h => hF q.1 h)) hS1 (by rw [← ht]; exact hX9) hm
  · obtain ⟨rfl, hφ⟩ := hp
    obtain ⟨hB, hE9⟩ := hB
    exact kk u hφ H1 locs1 (by rw [← ht]; exact hB.1) (hB.2.weaken (fun _ q _ h => hF q.1 h)) hS1 (by rw [← ht]; exact hE9)
end
section
variable {p : Program} {l : Launch} {e : Env} {R : Room} {s : State} {m : MethodId} {args : Array Value} {below : List Frame} {meth : Method} {c : Code} {H : Heap} {locs : List Loc} {cells slots : Nat} {Q : State → Prop}
variable {cc : ByteArray} {pc : Nat} {ls : Array Slot} {rest : List Value} {D : va_G} {cl : List vw_C} {A : Nat → Prop} {a : Nat} {tys : List (ClassId × FieldType)} {ws : va_W} {H0 : Heap}
theorem va_newM {c0 : Code} (hexec : p.tables.exec = Jvm.exec) (hb : c0.code = cc) {own C : String} {T : u_T} {N ci index : Nat} {Ts : List Cond} (hts : ∀ w ∈ Ts, w.before args s = true) (hin : ∀ w ∈ u_ws C T N, w ∈ Ts) (ty : Nat → FieldType) (hty : ∀ k, k < N → parseFieldDescriptor (T k).2.2.1 = some (ty k)) (hown : s.vm.findClass own = some m.cls) (hcl : (Cond.classLink own index C).before args s = true) (hinst : (Cond.instantiable C N).before args s = true) (hini : (Cond.initialized C).before args s = true)
    (hK : va_K D cl tys s) (hP : va_P D cl ws H) (hD : va_D A ws) (hS : va_S A H0 H locs) (hA : ∀ q, H0.size ≤ q → A q) (hc : cl[ci]? = some (C, T, N)) {fs : List Value} (hfs : ∀ j, j < N → defaultValue (ty j) = vp_V fs j) (hcells : cells + 1 ≤ R.cells) (hslots : slots + N ≤ R.slots) (hdg : decode cc pc = .ok (.new index, 3))
    (kk : ∀ (q : Nat) (H1 : Heap), va_P D cl (ws ++ [(q, .inr (ci, fs))]) H1 → va_D A (ws ++ [(q, .inr (ci, fs))]) → va_S A H0 H1 locs → MKp H H1 → MF H1 q →
      W p l e R s m args below meth c0 H1 locs (cells + 1) (slots + N) Q (F0 m (pc + 3) ls (.ref q :: rest))) : W p l e R s m args below meth c0 H locs cells slots Q (F0 m pc ls rest) := by
  have hKn := hK.1 ci _ hc
  refine W.newcK hexec hb hown hcl hinst hini rfl hdg hcells hslots hKn.2.1 rfl fun H1 kC hkC e1 z1 o1 => ?_
  have hk : ∀ (k : Nat) (x : Nat × va_E), ws[k]? = some x → H1[x.1]? = H[x.1]? := fun k x hx => o1 x.1 ((hP k x hx).lt)
  refine kk H.size H1 ((hP.kept hk).app (fun k x hx => ?_)) (hD.push hP rfl (hA _ hS.1)) ⟨Nat.le_trans hS.1 (by omega), fun x h1 h2 => (o1 x (Nat.lt_of_lt_of_le h1 hS.1)).trans (hS.2.1 x h1 h2), hS.2.2⟩ (fun q ce hq => ⟨ce, by rw [o1 q (Array.getElem?_eq_some_iff.mp hq).1]; exact hq, rfl⟩) ⟨_, e1, rfl, rfl⟩
  have hz : k < 1 := (List.getElem?_eq_some_iff.mp hx).1
  rw [show k = 0 by omega] at hx
  cases hx
  exact ⟨_, hc, (u_born ty hts hin hKn hkC e1 hty).to hfs⟩
end
section
variable {p : Program} {l : Launch} {e : Env} {R : Room} {s : State} {m : MethodId} {args : Array Value} {below : List Frame} {meth : Method} {c : Code} {H : Heap} {locs : List Loc} {cells slots : Nat} {Q : State → Prop}
variable {cc : ByteArray} {pc : Nat} {ls : Array Slot} {rest : List Value} {D : va_G} {cl : List vw_C} {A : Nat → Prop} {a : Nat} {tys : List (ClassId × FieldType)} {ws : va_W} {H0 : Heap}
theorem va_putM (hexec : p.tables.exec = Jvm.exec) (hb : c.code = cc) {own ref C : String} {T : u_T} {N ci index : Nat} {Ts : List Cond} (hts : ∀ w ∈ Ts, w.before args s = true) (hin : ∀ w ∈ u_ws C T N, w ∈ Ts) (ty0 : Nat → FieldType) (hty : ∀ k, k < N → parseFieldDescriptor (T k).2.2.1 = some (ty0 k)) (hnm : ∀ a, a < N → ∀ b, b < N → a ≠ b → (T a).2.1 ≠ (T b).2.1) (hown : s.vm.findClass own = some m.cls) (hK : va_K D cl tys s) (hP : va_P D cl ws H) (hD : va_D A ws) (hS0 : va_S A H0 H locs) (q0 : Nat) {fs : List Value} (he : ws[q0]? = some (a, .inr (ci, fs))) (hc : cl[ci]? = some (C, T, N)) (k : Nat) (hk : k < N) (hlink : (Cond.fieldLink own index ref (T k).2.1 (T k).2.2.1).before args s = true) (hsame : ∀ x, s.fieldFound? (T k).1 (T k).2.1 (T k).2.2.1 = some x → s.fieldFound? ref (T k).2.1 (T k).2.2.1 = some x) (hfin : (T k).2.2.2 = false) {ty : FieldType} {v : Value} (hd : parseFieldDescriptor (T k).2.2.1 = some ty) (hn : narrow ty v = v) (hfit : fits ty v = true) (hl : k < fs.length)
    (hdg : decode cc pc = .ok (.putfield index, 3)) (kk : ∀ (H1 : Heap) (locs1 : List Loc), va_P D cl (ws.set q0 (a, .inr (ci, fs.set k v))) H1 → va_D A (ws.set q0 (a, .inr (ci, fs.set k v))) → va_S A H0 H1 locs1 → MKp H H1 → W p l e R s m args below meth c H1 locs1 cells slots Q (F0 m (pc + 3) ls rest)) : W p l e R s m args below meth c H locs cells slots Q (F0 m pc ls (v :: .ref a :: rest)) := by
  have hap := va_apart (own := own) hts hin ty0 hty hnm hK hc
  obtain ⟨r, h1, cell, q1, q2, q3, q4⟩ := hP q0 _ he
  have hr : r = (C, T, N) := Option.some.inj (h1.symm.trans hc)
  subst hr
  obtain ⟨hS, hfc, kC, hkC, hkind⟩ := hK.1 ci _ hc
  obtain ⟨cf, kf, fi, f, hi, hsl⟩ := hS k hk
  have hlay := hts _ (hin _ (u_in_lay hk))
  unfold u_lay at hlay
  rw [if_neg (by rw [hfin]; decide)] at hlay
  have hst := (u_facts hfc hkC (u_lays hts hin hk) hi).1
  have h6 := u_store hfc hkC hkind hlay hi hd hn hfit
  refine W.putK hexec hb (f := f) ⟨hown, hlink, ⟨_, _, _, hsame _ hi⟩, hst⟩ (by rw [q2]; exact h6) q1 q3 (by rw [hsl]; exact k2_hasslot (q4 k hk)) rfl rfl hdg fun H' e1 e2 e3 => ?_
  rw [hsl] at e1 ⊢
  exact kk H' _ (hP.set hD he ⟨_, hc, t_OB.to (V := updV (vp_V fs) k v) ⟨_, e1, q2, q3, t_set q4 hap hk v⟩ (fun j _ => vp_updV_set hl v j)⟩ e3) (hD.set he) (hS0.put e2 e3 (hD.2 q0 _ he)) (fun q ce hq => by
    by_cases hqa : q = a
    · subst hqa
      cases q1.symm.trans hq
      exact ⟨_, e1, rfl⟩
    · exact ⟨ce, by rw [e3 q hqa]; exact hq, rfl⟩)
end
section
variable {p : Program} {l : Launch} {e : Env} {R : Room} {s : State} {m : MethodId} {args : Array Value} {below : List Frame} {meth : Method} {c : Code} {H : Heap} {locs : List Loc} {cells slots : Nat} {Q : State → Prop}
variable {pc : Nat} {ls : Array Slot} {rest st0 : List Value} {A : Nat → Prop} {cc bytes : ByteArray} {nL maxL n index mc ms : Nat} {own C : String} {y : MethodName} {ret : Option FieldType} {ws : List Cond} {rm : Room} {D : va_G} {d : Nat → ClassId} {z : ZT} {av : List Value} {a : Array Value} {w wc wr wc' tl w' : va_W} {isC isR perm : List Nat} {o ci : Nat} {fs : List Value} {T : u_T} {N : Nat}
theorem g_newN {w1 : Nat → va_W} (hx : p.tables.exec = Jvm.exec) (hb : c.code = cc) (hts : ∀ w ∈ lw_all, w.before args s = true) (hown : s.vm.findClass own = some m.cls) (hK : KK D d s) (hP : va_P D CL w H) (hD : va_D A w) (hS : va_S A s.heap H locs) (hA : ∀ q, s.heap.size ≤ q → A q) (hin : ∀ w ∈ u_ws C T N, w ∈ lw_all) (ty : Nat → FieldType) (hty : ∀ k, k < N → parseFieldDescriptor (T k).2.2.1 = some (ty k)) (hcl : Cond.classLink own index C ∈ lw_all) (hinst : Cond.instantiable C N ∈ lw_all) (hini : Cond.initialized C ∈ lw_all) (hc : CL[ci]? = some (C, T, N)) {fs : List Value} (hfs : ∀ j, j < N → defaultValue (ty j) = vp_V fs j) (hcells : cells + 1 ≤ R.cells) (hslots : slots + N ≤ R.slots) (hw : ∀ q, w ++ [(q, .inr (ci, fs))] = w1 q) (hdg : decode cc pc = .ok (.new index, 3))
    (kk : ∀ (q : Nat) (H1 : Heap), va_P D CL (w1 q) H1 → va_D A (w1 q) → va_S A s.heap H1 locs → MKp H H1 → MF H1 q → W p l e R s m args below meth c H1 locs (cells + 1) (slots + N) Q (F0 m (pc + 3) ls (.ref q :: rest))) : W p l e R s m args below meth c H locs cells slots Q (F0 m pc ls rest) :=
  va_newM hx hb hts hin ty hty hown (hts _ hcl) (hts _ hinst) (hts _ hini) hK.1 hP hD hS hA hc hfs hcells hslots hdg (fun q H1 a1 a2 a3 a4 a5 => kk q H1 (by rw [← hw]; exact a1) (by rw [← hw]; exact a2) a3 a4 a5)
end
section
variable {p : Program} {l : Launch} {e : Env} {R : Room} {s : State} {m : MethodId} {args : Array Value} {below : List Frame} {meth : Method} {c : Code} {H : Heap} {locs : List Loc} {cells slots : Nat} {Q : State → Prop}
variable {pc : Nat} {ls : Array Slot} {rest st0 : List Value} {A : Nat → Prop} {cc bytes : ByteArray} {nL maxL n index mc ms : Nat} {own C : String} {y : MethodName} {ret : Option FieldType} {ws : List Cond} {rm : Room} {D : va_G} {d : Nat → ClassId} {z : ZT} {av : List Value} {a : Array Value} {w wc wr wc' tl w' : va_W} {isC isR perm : List Nat} {o ci : Nat} {fs : List Value} {T : u_T} {N : Nat}
theorem g_newTM {w1 : Nat → va_W} (hx : p.tables.exec = Jvm.exec) (hb : c.code = cc) (hts : ∀ w ∈ lw_all, w.before args s = true) (hown : s.vm.findClass own = some m.cls) (hK : KK D d s) (hP : va_P D CL (w ++ tl) H) (hD : va_D A (w ++ tl)) (hS : va_S A s.heap H locs) (hA : ∀ q, s.heap.size ≤ q → A q) (hin : ∀ w ∈ u_ws C T N, w ∈ lw_all) (ty : Nat → FieldType) (hty : ∀ k, k < N → parseFieldDescriptor (T k).2.2.1 = some (ty k)) (hcl : Cond.classLink own index C ∈ lw_all) (hinst : Cond.instantiable C N ∈ lw_all) (hini : Cond.initialized C ∈ lw_all) (hc : CL[ci]? = some (C, T, N)) {fs : List Value} (hfs : ∀ j, j < N → defaultValue (ty j) = vp_V fs j) (hcells : cells + 1 ≤ R.cells) (hslots : slots + N ≤ R.slots) (hw : ∀ q, w ++ [(q, .inr (ci, fs))] = w1 q) (hdg : decode cc pc = .ok (.new index, 3))
    (kk : ∀ (q : Nat) (H1 : Heap), va_P D CL (w1 q ++ tl) H1 → va_D A (w1 q ++ tl) → va_S A s.heap H1 locs → MKp H H1 → MF H1 q → W p l e R s m args below meth c H1 locs (cells + 1) (slots + N) Q (F0 m (pc + 3) ls (.ref q :: rest))) : W p l e R s m args below meth c H locs cells slots Q (F0 m pc ls rest) :=
  g_newN hx hb hts hown hK hP hD hS hA hin ty hty hcl hinst hini hc hfs hcells hslots (w1 := fun q => (w ++ tl) ++ [(q, .inr (ci, fs))]) (fun _ => rfl) hdg (fun q H1 a1 a2 a3 a4 a5 => kk q H1 (by rw [← hw]; exact wP_push a1) (by rw [← hw]; exact wD_push a2) a3 a4 a5)
end
section
variable {p : Program} {l : Launch} {e : Env} {R : Room} {s : State} {m : MethodId} {args : Array Value} {below : List Frame} {meth : Method} {c : Code} {H : Heap} {locs : List Loc} {cells slots : Nat} {Q : State → Prop}
variable {pc : Nat} {ls : Array Slot} {rest st0 : List Value} {A : Nat → Prop} {cc bytes : ByteArray} {nL maxL n index : Nat} {own C : String} {y : MethodName} {ret : Option FieldType} {ws : List Cond} {rm : Room} {D : va_G} {d : Nat → ClassId} {z : ZT} {av : List Value} {w w' : va_W} {o ci q0 : Nat} {fs : List Value} {T : u_T} {N : Nat}
theorem g_putM (hx : p.tables.exec = Jvm.exec) (hb : c.code = cc) (hts : ∀ w ∈ lw_all, w.before args s = true) (hown : s.vm.findClass own = some m.cls) (hK : KK D d s) (hP : va_P D CL w H) (hD : va_D A w) (hS : va_S A s.heap H locs) (hin : ∀ w ∈ u_ws C T N, w ∈ lw_all) (ty0 : Nat → FieldType) (hty : ∀ k, k < N → parseFieldDescriptor (T k).2.2.1 = some (ty0 k)) (hnm : ∀ a, a < N → ∀ b, b < N → a ≠ b → (T a).2.1 ≠ (T b).2.1) (q0 : Nat) (he : w[q0]? = some (o, .inr (ci, fs))) (hc : CL[ci]? = some (C, T, N)) (k : Nat) (hk : k < N) {ref : String} (hlink : Cond.fieldLink own index ref (T k).2.1 (T k).2.2.1 ∈ lw_all) (hsame : ∀ x, s.fieldFound? (T k).1 (T k).2.1 (T k).2.2.1 = some x → s.fieldFound? ref (T k).2.1 (T k).2.2.1 = some x) (hfin : (T k).2.2.2 = false) {ty : FieldType} {v : Value} (hd : ty0 k = ty) (hn : narrow ty v = v) (hfit : fits ty v = true) (hl : k < fs.length)
    (hset : w.set q0 (o, .inr (ci, fs.set k v)) = w') (hdg : decode cc pc = .ok (.putfield index, 3)) (kk : ∀ (H1 : Heap) (locs1 : List Loc), va_P D CL w' H1 → va_D A w' → va_S A s.heap H1 locs1 → MKp H H1 → W p l e R s m args below meth c H1 locs1 cells slots Q (F0 m (pc + 3) ls rest)) : W p l e R s m args below meth c H locs cells slots Q (F0 m pc ls (v :: .ref o :: rest)) := by
  subst hset
  exact va_putM hx hb hts hin ty0 hty hnm hown hK.1 hP hD hS q0 he hc k hk (hts _ hlink) hsame hfin (by rw [hty k hk, hd]) hn hfit hl hdg kk
end
def CISM {S : Type} (l : Launch) (y : MethodName) (ws : List Cond) (rm : Room) (D : va_G) (d : Nat → ClassId) (z : ZT) (av : List Value) (w : va_W) (r : S → Int32) (w' : S → va_W) (φ : S → Prop) (t0 : va_W) (t9 : S → va_W) : Prop :=
  ∀ sz : Nat, Met l y ws rm (Pw D d z av sz w) (va_Qi (fun (r1 : Int32) (u : S) => r1 = r u ∧ φ u) (fun u t => Bw D (va_A w sz) (w' u) t ∧ MN t0 (t9 u) t.heap) (va_A w sz)) rm.cells rm.slots (va_A w sz)
def CIXM {S S' : Type} (l : Launch) (y : MethodName) (ws : List Cond) (rm : Room) (D : va_G) (d : Nat → ClassId) (z : ZT) (av : List Value) (w : va_W) (r : S → Int32) (w' : S → va_W) (φ : S → Prop) (ex : S' → Nat × Nat) (wx : S' → va_W) (ψ : S' → Prop) (t0 : va_W) (t9 : S → va_W) (x9 : S' → va_W) : Prop :=
  ∀ sz : Nat, vx_Met l y ws rm (Pw D d z av sz w) (va_Qi (fun (r1 : Int32) (u : S) => r1 = r u ∧ φ u) (fun u t => Bw D (va_A w sz) (w' u) t ∧ MN t0 (t9 u) t.heap) (va_A w sz)) (vx_X ψ (fun q E u t => BXq D (va_A w sz) ex wx q E u t ∧ MN t0 (x9 u) t.heap) (va_A w sz)) rm.cells rm.slots (va_A w sz)
def CVXM {S S' : Type} (l : Launch) (y : MethodName) (ws : List Cond) (rm : Room) (D : va_G) (d : Nat → ClassId) (z : ZT) (av : List Value) (w : va_W) (w' : S → va_W) (φ : S → Prop) (ex : S' → Nat × Nat) (wx : S' → va_W) (ψ : S' → Prop) (t0 : va_W) (t9 : S → va_W) (x9 : S' → va_W) : Prop :=
  ∀ sz : Nat, vx_Met l y ws rm (Pw D d z av sz w) (va_Qv (fun (u : S) => φ u) (fun u t => Bw D (va_A w sz) (w' u) t ∧ MN t0 (t9 u) t.heap) (va_A w sz)) (vx_X ψ (fun q E u t => BXq D (va_A w sz) ex wx q E u t ∧ MN t0 (x9 u) t.heap) (va_A w sz)) rm.cells rm.slots (va_A w sz)
theorem CISM.of {S : Type} {l : Launch} {y : MethodName} {cc : ByteArray} {nL : Nat} {rt : FieldType} {rm : Room} {D : va_G} {d : Nat → ClassId} {z : ZT} {av : List Value} {w : va_W} {r : S → Int32} {w' : S → va_W} {φ : S → Prop} {own : String} {t0 : va_W} {t9 : S → va_W} (hc : y.cls = own) (hy : plainName y.cls = true) (hav : (lg_sl av).length ≤ nL) (hn : ∀ u, narrow rt (.int (r u)) = .int (r u)) 
    (body : ∀ (p : Program) (e : Env) (s : State) (m : MethodId) (args : Array Value) (below : List Frame) (meth : Method) (c : Code) (A : Nat → Prop) (Q : State → Prop) (ls : Array Slot), CallFix p m c cc nL s args lw_all own → meth.name = y.name → KK D d s → va_P D CL w s.heap → va_D A w → ZZ z A s s.heap → va_S A s.heap s.heap [] → (∀ q, s.heap.size ≤ q → A q) → lv_has ls nL (lv_args 0 av) →
      (∀ (u : S), φ u → ∀ (H : Heap) (locs : List Loc) (pc : Nat) (ls' : Array Slot), decode cc pc = .ok (.ireturn, 1) → va_P D CL (w' u) H → va_D A (w' u) → va_S A s.heap H locs → MN t0 (t9 u) H → W p l e rm s m args below meth c H locs rm.cells rm.slots Q (F0 m pc ls' [.int (r u)])) →
      W p l e rm s m args below meth c s.heap [] 0 0 Q (F0 m 0 ls [])) : CISM l y (ws_ y cc nL (some rt)) rm D d z av w r w' φ t0 t9 := by
  intro sz
  subst hc
  refine Met.ofW (cc := cc) (maxL := nL) (ret := (some rt)) hy rfl ?_
  intro p e s m args below meth c s₁ B hml hv
  obtain ⟨rfl, hsz, hP, hK, hD0, hZ⟩ := hv
  have hts := atoms_spec (ws := ws_ y cc nL (some rt)) B.pre
  have hts : ∀ w ∈ lw_all, w.before _ s = true := fun w h => hts w (List.mem_cons_of_mem _ h)
  subst hsz
  have hD := hD0.self (sz := s.heap.size)
  have hl := lv_entry av (n := nL) hav
  rw [lg_entry_eq]
  exact body p e s m _ below meth c _ _ _ ⟨B.exec, B.bytes, hml, findClass_of_methodNamed B.named, hts⟩ (name_of_methodNamed B.named B.method).1 hK hP hD hZ va_S.rf (fun q h => Or.inr h) hl
    (fun u hφ H locs pc ls' hdg hP hD hS hN => W.zret B.exec B.bytes B.returns (hn u) (fun t ht hW => ⟨⟨r u, u, rfl, ⟨rfl, hφ⟩, ⟨by rw [ht]; exact hP, hD⟩, by rw [ht]; exact hN⟩, hS.F ht⟩) hS.2.2 hdg B.notSynchronized)
theorem CISM.ofH {S : Type} {l : Launch} {y : MethodName} {cc : ByteArray} {nL : Nat} {rt : FieldType} {rm : Room} {D : va_G} {d : Nat → ClassId} {z : ZT} {av : List Value} {w : va_W} {r : S → Int32} {w' : S → va_W} {φ : S → Prop} {own : String} {t0 : va_W} {t9 : S → va_W} {hh : List (Nat × Nat × Nat × Nat)} (hc : y.cls = own) (hy : plainName y.cls = true) (hav : (lg_sl av).length ≤ nL) (hn : ∀ u, narrow rt (.int (r u)) = .int (r u)) 
    (body : ∀ (p : Program) (e : Env) (s : State) (m : MethodId) (args : Array Value) (below : List Frame) (meth : Method) (c : Code) (A : Nat → Prop) (Q : State → Prop) (ls : Array Slot), CallFix p m c cc nL s args lw_all own → meth.name = y.name → c.exceptionTable.toList = tableOf hh → KK D d s → va_P D CL w s.heap → va_D A w → ZZ z A s s.heap → va_S A s.heap s.heap [] → (∀ q, s.heap.size ≤ q → A q) → lv_has ls nL (lv_args 0 av) →
      (∀ (u : S), φ u → ∀ (H : Heap) (locs : List Loc) (pc : Nat) (ls' : Array Slot), decode cc pc = .ok (.ireturn, 1) → va_P D CL (w' u) H → va_D A (w' u) → va_S A s.heap H locs → MN t0 (t9 u) H → W p l e rm s m args below meth c H locs rm.cells rm.slots Q (F0 m pc ls' [.int (r u)])) →
      W p l e rm s m args below meth c s.heap [] 0 0 Q (F0 m 0 ls [])) : CISM l y (wsW_ y cc nL (some rt) hh) rm D d z av w r w' φ t0 t9 := by
  intro sz
  subst hc
  refine Met.ofWH (cc := cc) (maxL := nL) (ret := (some rt)) hy rfl ?_
  intro p e s m args below meth c s₁ B hml hv
  obtain ⟨rfl, hsz, hP, hK, hD0, hZ⟩ := hv
  have hts := atoms_spec (ws := (wsW_ y cc nL (some rt) hh)) B.pre
  have htab := vx_table (x := y) B (hts _ List.mem_cons_self)
  have hts : ∀ w ∈ lw_all, w.before _ s = true := fun w h => hts w (List.mem_cons_of_mem _ h)
  subst hsz
  have hD := hD0.self (sz := s.heap.size)
  have hl := lv_entry av (n := nL) hav
  rw [lg_entry_eq]
  exact body p e s m _ below meth c _ _ _ ⟨B.exec, B.bytes, hml, findClass_of_methodNamed B.named, hts⟩ (name_of_methodNamed B.named B.method).1 htab hK hP hD hZ va_S.rf (fun q h => Or.inr h) hl
    (fun u hφ H locs pc ls' hdg hP hD hS hN => W.zret B.exec B.bytes B.returns (hn u) (fun t ht hW => ⟨⟨(r u), u, rfl, ⟨rfl, hφ⟩, ⟨by rw [ht]; exact hP, hD⟩, by rw [ht]; exact hN⟩, hS.F ht⟩) hS.2.2 hdg B.notSynchronized)
theorem CVXM.of {S : Type} {S' : Type} {l : Launch} {y : MethodName} {cc : ByteArray} {nL : Nat} {rm : Room} {D : va_G} {d : Nat → ClassId} {z : ZT} {av : List Value} {w : va_W} {w' : S → va_W} {φ : S → Prop} {ex : S' → Nat × Nat} {wx : S' → va_W} {ψ : S' → Prop} {own : String} {t0 : va_W} {t9 : S → va_W} {x9 : S' → va_W} (hc : y.cls = own) (hy : plainName y.cls = true) (hav : (lg_sl av).length ≤ nL) 
    (body : ∀ (p : Program) (e : Env) (s : State) (m : MethodId) (args : Array Value) (below : List Frame) (meth : Method) (c : Code) (A : Nat → Prop) (Q : State → Prop) (ls : Array Slot), CallFix p m c cc nL s args lw_all own → meth.name = y.name → KK D d s → va_P D CL w s.heap → va_D A w → ZZ z A s s.heap → va_S A s.heap s.heap [] → (∀ q, s.heap.size ≤ q → A q) → lv_has ls nL (lv_args 0 av) →
      (∀ (u : S), φ u → ∀ (H : Heap) (locs : List Loc) (pc : Nat) (ls' : Array Slot), decode cc pc = .ok (.return_, 1) → va_P D CL (w' u) H → va_D A (w' u) → va_S A s.heap H locs → MN t0 (t9 u) H → W p l e rm s m args below meth c H locs rm.cells rm.slots Q (F0 m pc ls' [])) →
      (∀ (u : S'), ψ u → ∀ (H : Heap) (locs : List Loc) (pc : Nat) (ls' : Array Slot) (st' : List Value), va_P D CL (wx u) H → va_D A (wx u) → va_S A s.heap H locs → MN t0 (x9 u) H → (∃ fs, ((ex u).2, (.inr ((ex u).1, fs) : va_E)) ∈ wx u) → vx_W p l e rm s m args below meth c H locs rm.cells rm.slots Q (F0 m pc ls' st') (ex u).2) →
      W p l e rm s m args below meth c s.heap [] 0 0 Q (F0 m 0 ls [])) : CVXM l y (ws_ y cc nL none) rm D d z av w w' φ ex wx ψ t0 t9 x9 := by
  intro sz
  subst hc
  refine vx_ofW (XC := vx_X ψ (fun q E u t => BXq D (va_A w sz) ex wx q E u t ∧ MN t0 (x9 u) t.heap) (va_A w sz)) (cc := cc) (maxL := nL) (ret := none) hy rfl ?_
  intro p e s m args below meth c s₁ B hml ht hv
  obtain ⟨rfl, hsz, hP, hK, hD0, hZ⟩ := hv
  have hts := atoms_spec (ws := (ws_ y cc nL none)) B.pre
  skip
  have hts : ∀ w ∈ lw_all, w.before _ s = true := fun w h => hts w (List.mem_cons_of_mem _ h)
  subst hsz
  have hD := hD0.self (sz := s.heap.size)
  have hl := lv_entry av (n := nL) hav
  rw [lg_entry_eq]
  exact body p e s m _ below meth c _ _ _ ⟨B.exec, B.bytes, hml, findClass_of_methodNamed B.named, hts⟩ (name_of_methodNamed B.named B.method).1 hK hP hD hZ va_S.rf (fun q h => Or.inr h) hl
    (fun u hφ H locs pc ls' hdg hP hD hS hN => vx_ret (W.vret B.exec B.bytes B.returns (fun t ht hW => ⟨⟨u, rfl, hφ, ⟨by rw [ht]; exact hP, hD⟩, by rw [ht]; exact hN⟩, hS.F ht⟩) hS.2.2 hdg B.notSynchronized))
    (fun u hψ H locs pc ls' st' hP hD hS hN hm => by
      obtain ⟨ce, g1, g2, g3⟩ := ex_cell hK hP hm
      exact vx_out (fun x hx => (ht x hx).elim) B.notSynchronized g1 g2 g3 (fun t ht hW => ⟨u, hψ, ⟨⟨rfl, rfl, hm, by rw [ht]; exact hP, hD⟩, by rw [ht]; exact hN⟩, hS.F ht⟩) hS.2.2 (Nat.le_refl _) (Nat.le_refl _))
theorem CVXM.ofH {S : Type} {S' : Type} {l : Launch} {y : MethodName} {cc : ByteArray} {nL : Nat} {rm : Room} {D : va_G} {d : Nat → ClassId} {z : ZT} {av : List Value} {w : va_W} {w' : S → va_W} {φ : S → Prop} {ex : S' → Nat × Nat} {wx : S' → va_W} {ψ : S' → Prop} {own : String} {t0 : va_W} {t9 : S → va_W} {x9 : S' → va_W} {hh : List (Nat × Nat × Nat × Nat)} (hc : y.cls = own) (hy : plainName y.cls = true) (hav : (lg_sl av).length ≤ nL) 
    (body : ∀ (p : Program) (e : Env) (s : State) (m : MethodId) (args : Array Value) (below : List Frame) (meth : Method) (c : Code) (A : Nat → Prop) (Q : State → Prop) (ls : Array Slot), CallFix p m c cc nL s args lw_all own → meth.name = y.name → c.exceptionTable.toList = tableOf hh → KK D d s → va_P D CL w s.heap → va_D A w → ZZ z A s s.heap → va_S A s.heap s.heap [] → (∀ q, s.heap.size ≤ q → A q) → lv_has ls nL (lv_args 0 av) →
      (∀ (u : S), φ u → ∀ (H : Heap) (locs : List Loc) (pc : Nat) (ls' : Array Slot), decode cc pc = .ok (.return_, 1) → va_P D CL (w' u) H → va_D A (w' u) → va_S A s.heap H locs → MN t0 (t9 u) H → W p l e rm s m args below meth c H locs rm.cells rm.slots Q (F0 m pc ls' [])) →
      (∀ (u : S'), ψ u → ∀ (H : Heap) (locs : List Loc) (pc : Nat) (ls' : Array Slot) (st' : List Value), (∀ z9 ∈ c.exceptionTable.toList, covers z9 pc = false ∨ (z9.catchType ≠ 0 ∧ ∃ nm : String, (Cond.classLink own z9.catchType nm).before args s = true ∧ va_Nc (exN (ex u).1) nm s)) → va_P D CL (wx u) H → va_D A (wx u) → va_S A s.heap H locs → MN t0 (x9 u) H → (∃ fs, ((ex u).2, (.inr ((ex u).1, fs) : va_E)) ∈ wx u) → vx_W p l e rm s m args below meth c H locs rm.cells rm.slots Q (F0 m pc ls' st') (ex u).2) →
      W p l e rm s m args below meth c s.heap [] 0 0 Q (F0 m 0 ls [])) : CVXM l y (wsW_ y cc nL none hh) rm D d z av w w' φ ex wx ψ t0 t9 x9 := by
  intro sz
  subst hc
  refine vx_ofWH (XC := vx_X ψ (fun q E u t => BXq D (va_A w sz) ex wx q E u t ∧ MN t0 (x9 u) t.heap) (va_A w sz)) (cc := cc) (maxL := nL) (ret := none) hy rfl ?_
  intro p e s m args below meth c s₁ B hml hv
  obtain ⟨rfl, hsz, hP, hK, hD0, hZ⟩ := hv
  have hts := atoms_spec (ws := (wsW_ y cc nL none hh)) B.pre
  have htab := vx_table (x := y) B (hts _ List.mem_cons_self)
  have hts : ∀ w ∈ lw_all, w.before _ s = true := fun w h => hts w (List.mem_cons_of_mem _ h)
  subst hsz
  have hD := hD0.self (sz := s.heap.size)
  have hl := lv_entry av (n := nL) hav
  rw [lg_entry_eq]
  exact body p e s m _ below meth c _ _ _ ⟨B.exec, B.bytes, hml, findClass_of_methodNamed B.named, hts⟩ (name_of_methodNamed B.named B.method).1 htab hK hP hD hZ va_S.rf (fun q h => Or.inr h) hl
    (fun u hφ H locs pc ls' hdg hP hD hS hN => vx_ret (W.vret B.exec B.bytes B.returns (fun t ht hW => ⟨⟨u, rfl, hφ, ⟨by rw [ht]; exact hP, hD⟩, by rw [ht]; exact hN⟩, hS.F ht⟩) hS.2.2 hdg B.notSynchronized))
    (fun u hψ H locs pc ls' st' hcov hP hD hS hN hm => by
      obtain ⟨ce, g1, g2, g3⟩ := ex_cell hK hP hm
      exact vx_outP (findClass_of_methodNamed B.named) B.notSynchronized hcov g1 g2 g3 (fun t ht hW => ⟨u, hψ, ⟨⟨rfl, rfl, hm, by rw [ht]; exact hP, hD⟩, by rw [ht]; exact hN⟩, hS.F ht⟩) hS.2.2 (Nat.le_refl _) (Nat.le_refl _))
theorem CIXM.of {S : Type} {S' : Type} {l : Launch} {y : MethodName} {cc : ByteArray} {nL : Nat} {rt : FieldType} {rm : Room} {D : va_G} {d : Nat → ClassId} {z : ZT} {av : List Value} {w : va_W} {r : S → Int32} {w' : S → va_W} {φ : S → Prop} {ex : S' → Nat × Nat} {wx : S' → va_W} {ψ : S' → Prop} {own : String} {t0 : va_W} {t9 : S → va_W} {x9 : S' → va_W} (hc : y.cls = own) (hy : plainName y.cls = true) (hav : (lg_sl av).length ≤ nL) (hn : ∀ u, narrow rt (.int (r u)) = .int (r u)) 
    (body : ∀ (p : Program) (e : Env) (s : State) (m : MethodId) (args : Array Value) (below : List Frame) (meth : Method) (c : Code) (A : Nat → Prop) (Q : State → Prop) (ls : Array Slot), CallFix p m c cc nL s args lw_all own → meth.name = y.name → KK D d s → va_P D CL w s.heap → va_D A w → ZZ z A s s.heap → va_S A s.heap s.heap [] → (∀ q, s.heap.size ≤ q → A q) → lv_has ls nL (lv_args 0 av) →
      (∀ (u : S), φ u → ∀ (H : Heap) (locs : List Loc) (pc : Nat) (ls' : Array Slot), decode cc pc = .ok (.ireturn, 1) → va_P D CL (w' u) H → va_D A (w' u) → va_S A s.heap H locs → MN t0 (t9 u) H → W p l e rm s m args below meth c H locs rm.cells rm.slots Q (F0 m pc ls' [.int (r u)])) →
      (∀ (u : S'), ψ u → ∀ (H : Heap) (locs : List Loc) (pc : Nat) (ls' : Array Slot) (st' : List Value), va_P D CL (wx u) H → va_D A (wx u) → va_S A s.heap H locs → MN t0 (x9 u) H → (∃ fs, ((ex u).2, (.inr ((ex u).1, fs) : va_E)) ∈ wx u) → vx_W p l e rm s m args below meth c H locs rm.cells rm.slots Q (F0 m pc ls' st') (ex u).2) →
      W p l e rm s m args below meth c s.heap [] 0 0 Q (F0 m 0 ls [])) : CIXM l y (ws_ y cc nL (some rt)) rm D d z av w r w' φ ex wx ψ t0 t9 x9 := by
  intro sz
  subst hc
  refine vx_ofW (XC := vx_X ψ (fun q E u t => BXq D (va_A w sz) ex wx q E u t ∧ MN t0 (x9 u) t.heap) (va_A w sz)) (cc := cc) (maxL := nL) (ret := (some rt)) hy rfl ?_
  intro p e s m args below meth c s₁ B hml ht hv
  obtain ⟨rfl, hsz, hP, hK, hD0, hZ⟩ := hv
  have hts := atoms_spec (ws := (ws_ y cc nL (some rt))) B.pre
  skip
  have hts : ∀ w ∈ lw_all, w.before _ s = true := fun w h => hts w (List.mem_cons_of_mem _ h)
  subst hsz
  have hD := hD0.self (sz := s.heap.size)
  have hl := lv_entry av (n := nL) hav
  rw [lg_entry_eq]
  exact body p e s m _ below meth c _ _ _ ⟨B.exec, B.bytes, hml, findClass_of_methodNamed B.named, hts⟩ (name_of_methodNamed B.named B.method).1 hK hP hD hZ va_S.rf (fun q h => Or.inr h) hl
    (fun u hφ H locs pc ls' hdg hP hD hS hN => vx_ret (W.zret B.exec B.bytes B.returns (hn u) (fun t ht hW => ⟨⟨(r u), u, rfl, ⟨rfl, hφ⟩, ⟨by rw [ht]; exact hP, hD⟩, by rw [ht]; exact hN⟩, hS.F ht⟩) hS.2.2 hdg B.notSynchronized))
    (fun u hψ H locs pc ls' st' hP hD hS hN hm => by
      obtain ⟨ce, g1, g2, g3⟩ := ex_cell hK hP hm
      exact vx_out (fun x hx => (ht x hx).elim) B.notSynchronized g1 g2 g3 (fun t ht hW => ⟨u, hψ, ⟨⟨rfl, rfl, hm, by rw [ht]; exact hP, hD⟩, by rw [ht]; exact hN⟩, hS.F ht⟩) hS.2.2 (Nat.le_refl _) (Nat.le_refl _))
theorem MN.eqt {w0 w w2 : va_W} {H : Heap} (h : MN w0 w H) (e : w2 = w) : MN w0 w2 H := e ▸ h
def MNK (H0 : Heap) (t0 t1 : va_W) (H : Heap) : Prop := MN t0 t1 H ∧ MKp H0 H
section KP2
variable {l : Launch} {y : MethodName} {ws : List Cond} {rm : Room} {Pc : Array Value → State → Prop} {mc ms : Nat} {free : Addr → Prop} {A1 AX : Nat → Prop} {t0 : va_W}
theorem keI2 {S : Type} {post : Int32 → S → Prop} {B : S → State → Prop} {t9 : S → va_W} (h : Met l y ws rm Pc (va_Qi post (fun u t => B u t ∧ MN t0 (t9 u) t.heap) A1) mc ms free) (H0 : Heap) : Met l y ws rm (fun a U => Pc a U ∧ U.heap = H0) (va_Qi post (fun u t => B u t ∧ MNK H0 t0 (t9 u) t.heap) A1) mc ms free := by
  intro p e ha hc hk s m args below hf happ hP hK
  obtain ⟨n, o, a1, a2, a3, ⟨⟨r, u, b1, b2, b3⟩, b4⟩, L, hF, hL⟩ := h p e ha hc hk s m args below hf happ hP.1 hK
  exact ⟨n, o, a1, a2, a3, ⟨⟨r, u, b1, b2, b3.1, b3.2, by rw [← hP.2]; exact MKp.of hF.2.2⟩, b4⟩, L, hF, hL⟩
theorem kxI2 {S SX : Type} {post : Int32 → S → Prop} {B : S → State → Prop} {px : SX → Prop} {BX : Addr → String → SX → State → Prop} {t9 : S → va_W} {x9 : SX → va_W} (h : vx_Met l y ws rm Pc (va_Qi post (fun u t => B u t ∧ MN t0 (t9 u) t.heap) A1) (vx_X px (fun q E u t => BX q E u t ∧ MN t0 (x9 u) t.heap) AX) mc ms free) (H0 : Heap) : vx_Met l y ws rm (fun a U => Pc a U ∧ U.heap = H0) (va_Qi post (fun u t => B u t ∧ MNK H0 t0 (t9 u) t.heap) A1) (vx_X px (fun q E u t => BX q E u t ∧ MNK H0 t0 (x9 u) t.heap) AX) mc ms free := by
  intro p e ha hc hk s m args below hf happ hP hK
  obtain ⟨n, o, a1, a2, a3, hq⟩ := h p e ha hc hk s m args below hf happ hP.1 hK
  refine ⟨n, o, a1, a2, a3, ?_⟩
  rcases hq with ⟨⟨⟨r, u, b1, b2, b3⟩, b4⟩, L, hF, hL⟩ | ⟨q, ho, E, ce, L, ⟨u, c1, c2, c3⟩, d1, d2, d3, d4, d5, d6⟩
  · exact Or.inl ⟨⟨⟨r, u, b1, b2, b3.1, b3.2, by rw [← hP.2]; exact MKp.of hF.2.2⟩, b4⟩, L, hF, hL⟩
  · exact Or.inr ⟨q, ho, E, ce, L, ⟨u, c1, ⟨c2.1, c2.2, by rw [← hP.2]; exact MKp.of d5⟩, c3⟩, d1, d2, d3, d4, d5, d6⟩
theorem kxV2 {S SX : Type} {post : S → Prop} {B : S → State → Prop} {px : SX → Prop} {BX : Addr → String → SX → State → Prop} {t9 : S → va_W} {x9 : SX → va_W} (h : vx_Met l y ws rm Pc (va_Qv post (fun u t => B u t ∧ MN t0 (t9 u) t.heap) A1) (vx_X px (fun q E u t => BX q E u t ∧ MN t0 (x9 u) t.heap) AX) mc ms free) (H0 : Heap) : vx_Met l y ws rm (fun a U => Pc a U ∧ U.heap = H0) (va_Qv post (fun u t => B u t ∧ MNK H0 t0 (t9 u) t.heap) A1) (vx_X px (fun q E u t => BX q E u t ∧ MNK H0 t0 (x9 u) t.heap) AX) mc ms free := by
  intro p e ha hc hk s m args below hf happ hP hK
  obtain ⟨n, o, a1, a2, a3, hq⟩ := h p e ha hc hk s m args below hf happ hP.1 hK
  refine ⟨n, o, a1, a2, a3, ?_⟩
  rcases hq with ⟨⟨⟨u, b1, b2, b3⟩, b4⟩, L, hF, hL⟩ | ⟨q, ho, E, ce, L, ⟨u, c1, c2, c3⟩, d1, d2, d3, d4, d5, d6⟩
  · exact Or.inl ⟨⟨⟨u, b1, b2, b3.1, b3.2, by rw [← hP.2]; exact MKp.of hF.2.2⟩, b4⟩, L, hF, hL⟩
  · exact Or.inr ⟨q, ho, E, ce, L, ⟨u, c1, ⟨c2.1, c2.2, by rw [← hP.2]; exact MKp.of d5⟩, c3⟩, d1, d2, d3, d4, d5, d6⟩
end KP2
/-! what an action keeps of the failures -/
theorem same_isSuitable {K : Nat} {o : Nat} {t : Int32 × Int32 × Int32} {μ ζ : XT} {r : Bool} (h : fX0_isSuitable K o t μ = some (r, ζ)) : ζ = μ := by
  unfold fX0_isSuitable at h
  obtain ⟨r2, -, h⟩ := b1_some h
  split at h
  · cases h; rfl
  · obtain ⟨r5, -, h⟩ := b1_some h
    split at h <;> · cases h; rfl
theorem same_distanceTo {K : Nat} {k : Int32} {μ ζ : XT} {r : Int32} (h : fX0_distanceTo K k μ = some (r, ζ)) : ζ = μ := by
  unfold fX0_distanceTo at h
  obtain ⟨r2, -, h⟩ := b1_some h
  obtain ⟨t3, -, h⟩ := b1_some h
  have h := nm_some h _ rfl
  cases h; rfl
theorem mn_init_L {K : Nat} {d : Nat → ClassId} {o : Nat} {ef : va_W} {q0 : Nat} {a b c e f : Int32} {q1 : Nat} {q2 q3 q4 : Nat} {μ : XS} : ∀ (n : Nat) (x : Int32) (g h : Int32) (y : Nat → Option Nat) (w : va_W), fX8_init_2c_L92 K d o ef n x q0 a b c e f q1 g h q2 q3 q4 y μ = some w → ∀ (q k : Nat) (fs : List Value), (q, (.inr (k, fs) : va_E)) ∈ w → k = 8 ∨ k = 18 := by
  intro n
  induction n with
  | zero => intro x g h y w hw; cases hw
  | succ n ih =>
    intro x g h y w hw
    rw [fX8_init_2c_L92] at hw
    obtain ⟨r9, -, hw⟩ := b1_some hw
    split at hw
    · cases hw
      intro q k fs hm
      simp only [List.mem_cons, List.not_mem_nil, or_false, Prod.mk.injEq, Sum.inr.injEq, reduceCtorEq, and_false, false_or] at hm
      rcases hm with ⟨-, rfl, -⟩ | ⟨-, rfl, -⟩
      · exact Or.inl rfl
      · exact Or.inr rfl
    · obtain ⟨r12, -, hw⟩ := b1_some hw
      obtain ⟨-, hw⟩ := gaP_some hw
      obtain ⟨-, hw⟩ := gaP_some hw
      obtain ⟨r16, z17, -, hw⟩ := b2_some hw
      exact ih _ _ _ _ w hw
theorem mn_init {K : Nat} {d : Nat → ClassId} {o : Nat} {u : UU} {μ : XS} {ef w : va_W} (hw : fX8_init_2c K d o u μ ef = some w) : ∀ (q k : Nat) (fs : List Value), (q, (.inr (k, fs) : va_E)) ∈ w → k = 8 ∨ k = 18 := by
  unfold fX8_init_2c ask at hw
  obtain ⟨-, hw⟩ := ga_some hw
  obtain ⟨-, hw⟩ := gaP_some hw
  exact mn_init_L _ _ _ _ _ _ hw
theorem mn_remember {K : Nat} {d : Nat → ClassId} {u : UU} {μ ζ : XT} (h : fX0_remember K d u μ = some ζ) : ∀ (q c : Nat) (fs : List Value), (q, (.inr (c, fs) : va_E)) ∈ ζ.2 → 10 ≤ c ∧ c ≤ 15 → (q, (.inr (c, fs) : va_E)) ∈ μ.2 := by
  have key : ∀ (w t : va_W), (∀ (q k : Nat) (fs : List Value), (q, (.inr (k, fs) : va_E)) ∈ w → k = 8 ∨ k = 18) → ∀ (q c : Nat) (fs : List Value), (q, (.inr (c, fs) : va_E)) ∈ w ++ t → 10 ≤ c ∧ c ≤ 15 → (q, (.inr (c, fs) : va_E)) ∈ t := by
    intro w t hw q c fs hm hc
    rcases List.mem_append.mp hm with h | h
    · rcases hw q c fs h with rfl | rfl <;> omega
    · exact h
  unfold fX0_remember at h
  obtain ⟨r2, -, h⟩ := b1_some h
  split at h
  · obtain ⟨r16, z17, -, h⟩ := b2_some h
    have h := nm_some h _ rfl
    unfold ask b1u at h
    obtain ⟨z22, h1, h⟩ := b1_some h
    have h := nm_some h _ rfl
    obtain ⟨-, h⟩ := gaP_some h
    obtain ⟨z28, -, h⟩ := b1_some h
    have h := nm_some h _ rfl
    cases h
    exact key _ _ (mn_init h1)
  · unfold ask b1u at h
    obtain ⟨z22, h1, h⟩ := b1_some h
    have h := nm_some h _ rfl
    obtain ⟨-, h⟩ := gaP_some h
    obtain ⟨z28, -, h⟩ := b1_some h
    have h := nm_some h _ rfl
    cases h
    exact key _ _ (mn_init h1)
theorem mn_change {K : Nat} {d : Nat → ClassId} {p0 : Int32 × Int32 × Int32} {u : UU} {μ ζ : XT} (h : fX0_change K d p0 u μ = some ζ) : ∀ (q c : Nat) (fs : List Value), (q, (.inr (c, fs) : va_E)) ∈ ζ.2 → 10 ≤ c ∧ c ≤ 15 → (q, (.inr (c, fs) : va_E)) ∈ μ.2 := by
  unfold fX0_change b1u at h
  obtain ⟨z3, h1, h⟩ := b1_some h
  obtain ⟨r6, z7, -, h⟩ := b2_some h
  obtain ⟨z9, -, h⟩ := b1_some h
  have h := nm_some h _ rfl
  cases h
  have h1 : fX0_remember K d (ue u) μ = some z3 := h1
  exact fun q c fs hm hc => mn_remember h1 q c fs hm hc
