/-! more rows: clones, arrays of references, casts to arrays; a copy of the state goes to the tail -/
set_option maxRecDepth 100000
set_option maxHeartbeats 4000000
abbrev SGP (d : Nat → ClassId) (b : Nat → Nat) (ξ : XS) : va_W := [(b 13, .inr (8, [.int (ξ.1 60), .int (ξ.1 61), .int (ξ.1 62), .int (ξ.1 63), .ref (b 14), .ref (b 15), .int (ξ.1 66), .ref (b 17)])), (b 14, .inl (d 0, 100, .inl (ξ.2.2.1 64))), (b 15, .inl (d 3, 100, .inl (ξ.2.2.1 65))), (b 17, .inr (18, [.int (ξ.1 70), .ref (b 18), .int (ξ.1 72)])), (b 18, .inl (d 4, 16, .inr (.inr (.inr (.inr (ξ.2.2.2.2 18))))))]
theorem fit_of {cA : ClassId} {n : Nat} {f : Nat → Int32} {ty : FieldType} (h : ∀ i, i < n → fits ty (.int (f i)) = true) : ∀ (i : Nat) (v : Value), (vp_cell cA (n, .inl f)).slots[i]? = some v → fits ty v = true := by
  intro i v hv
  have hs : (vp_cell cA (n, .inl f)).slots.size = n := arrV_size _ _ _
  have hi : i < n := by rw [← hs]; exact (Array.getElem?_eq_some_iff.mp hv).1
  have := arrV_read cA (fun i => Value.int (f i)) hi
  rw [show (vp_cell cA (n, .inl f)).slots[i]? = some (.int (f i)) from this] at hv
  cases hv
  exact h i hi
section KON
variable {p : Program} {l : Launch} {e : Env} {R : Room} {s : State} {m : MethodId} {args : Array Value} {below : List Frame} {meth : Method} {c : Code} {H : Heap} {locs : List Loc} {cells slots : Nat} {Q : State → Prop}
variable {pc : Nat} {ls : Array Slot} {rest st0 : List Value} {A : Nat → Prop} {cc bytes : ByteArray} {nL maxL n index mc ms : Nat} {own C : String} {y : MethodName} {ret : Option FieldType} {ws : List Cond} {rm : Room} {D : va_G} {d : Nat → ClassId} {z : ZT} {av : List Value} {a : Nat} {w wc wr wc' tl w' : va_W} {isC isR perm : List Nat} {o ci : Nat} {fs : List Value} {T : u_T} {N : Nat}
theorem g_clone {w1 : Nat → va_W} (hx : p.tables.exec = Jvm.exec) (hb : c.code = cc) (hml : c.maxLocals = ls.size) (hts : ∀ w ∈ lw_all, w.before args s = true) (hown : s.vm.findClass own = some m.cls) {ad : String} (hlink : Cond.methodLink own index ⟨ad, "clone", "()Ljava/lang/Object;"⟩ ∈ lw_all) (hsame : Cond.sameMethod ad "java/lang/Object" "clone" "()Ljava/lang/Object;" ∈ lw_all) (hnat : Cond.native ⟨"java/lang/Object", "clone", "()Ljava/lang/Object;"⟩ ∈ lw_all) (hinst : Cond.instanceMethod ⟨"java/lang/Object", "clone", "()Ljava/lang/Object;"⟩ ∈ lw_all) (hsel : Cond.selects ad ⟨ad, "clone", "()Ljava/lang/Object;"⟩ ⟨"java/lang/Object", "clone", "()Ljava/lang/Object;"⟩ ∈ lw_all) (hcl : Cond.castable ad "java/lang/Cloneable" ∈ lw_tbl)
    (hK : KK D d s) (hP : va_P D CL (w ++ tl) H) (hD : va_D A (w ++ tl)) (hS : va_S A s.heap H locs) (hA : ∀ q, s.heap.size ≤ q → A q) (q0 k : Nat) {x : vp_A} {ty : FieldType} (ha : w[q0]? = some (a, .inl (d k, x))) (hk : (TYS d)[k]? = some (d k, ty)) (hnm : s.vm.findClass ad = some (d k)) (hfit : ∀ (i : Nat) (v : Value), (vp_cell (d k) x).slots[i]? = some v → fits ty v = true)
    (hframes : 1 ≤ R.frames) (hlocals : (rest.map fun v => v.category).sum + 14 ≤ R.locals) (hcells : cells + 1 ≤ R.cells) (hslots : slots + x.1 ≤ R.slots) (hw : ∀ q, w ++ [(q, .inl (d k, x))] = w1 q) (hdg : decode cc pc = .ok (.invokevirtual index, 3))
    (kk : ∀ (q : Nat) (H1 : Heap), va_P D CL (w1 q ++ tl) H1 → va_D A (w1 q ++ tl) → va_S A s.heap H1 locs → W p l e R s m args below meth c H1 locs (cells + 1) (slots + x.1) Q (F0 m (pc + 3) ls (.ref q :: rest))) : W p l e R s m args below meth c H locs cells slots Q (F0 m pc ls (.ref a :: rest)) :=
  va_clone hx hb hml hown (hts _ hlink) (hts _ hsame) (hts _ hnat) (hts _ hinst) (hts _ hsel) (hK.2 _ hcl rfl) hK.1 hP hD hS hA q0 k (by rw [List.getElem?_append_left (List.getElem?_eq_some_iff.mp ha).1]; exact ha) hk hnm hfit hframes hlocals hcells hslots hdg (fun q H1 _ a1 a2 a3 => kk q H1 (by rw [← hw]; exact wP_push a1) (by rw [← hw]; exact wD_push a2) a3)
theorem g_castA (hx : p.tables.exec = Jvm.exec) (hb : c.code = cc) (hts : ∀ w ∈ lw_all, w.before args s = true) (hown : s.vm.findClass own = some m.cls) {nm : String} (hlink : Cond.classLink own index nm ∈ lw_all) (hP : va_P D CL (w ++ tl) H) (q0 k : Nat) {x : vp_A} (ha : w[q0]? = some (a, .inl (d k, x))) (hnm : s.vm.findClass nm = some (d k)) (hdg : decode cc pc = .ok (.checkcast index, 3))
    (kk : W p l e R s m args below meth c H locs cells slots Q (F0 m (pc + 3) ls (.ref a :: rest))) : W p l e R s m args below meth c H locs cells slots Q (F0 m pc ls (.ref a :: rest)) :=
  va_castA hx hb hown (hts _ hlink) hP q0 (by rw [List.getElem?_append_left (List.getElem?_eq_some_iff.mp ha).1]; exact ha) hnm hdg kk
theorem g_newqT {w1 : Nat → va_W} (hx : p.tables.exec = Jvm.exec) (hb : c.code = cc) (hts : ∀ w ∈ lw_all, w.before args s = true) (hown : s.vm.findClass own = some m.cls) (hK : KK D d s) (hP : va_P D CL (w ++ tl) H) (hD : va_D A (w ++ tl)) (hS : va_S A s.heap H locs) (hA : ∀ q, s.heap.size ≤ q → A q) (k : Nat) (hk : (TYS d)[k]? = some (d k, .object C)) (hlink : Cond.classLink own index C ∈ lw_all) (hover : Cond.arrayOver (.object C) ∈ lw_tbl) {n : Int32} {N' : Nat} (hn : ¬ n < 0) (hN : n.toNatClampNeg = N') (hbytes : N' * 4 ≤ 536870912) (hcells : cells + 1 ≤ R.cells) (hslots : slots + N' ≤ R.slots) (hw : ∀ q, w ++ [(q, .inl (d k, N', .inr (.inr (.inr (.inr (fun _ => none))))))] = w1 q) (hdg : decode cc pc = .ok (.anewarray index, 3))
    (kk : ∀ (q : Nat) (H1 : Heap), va_P D CL (w1 q ++ tl) H1 → va_D A (w1 q ++ tl) → va_S A s.heap H1 locs → W p l e R s m args below meth c H1 locs (cells + 1) (slots + N') Q (F0 m (pc + 3) ls (.ref q :: rest))) : W p l e R s m args below meth c H locs cells slots Q (F0 m pc ls (.int n :: rest)) := by
  refine va_newq hx hb hown (hts _ hlink) (hK.2 _ hover rfl) hK.1 hP hD hS hA hn hN hbytes hcells hslots hdg (fun q cA H1 hK1 hP1 hD1 hS1 => ?_)
  obtain ⟨_, _, _, _, _, e1⟩ := (hK.1.2 k _ hk).2
  obtain ⟨_, _, _, _, _, e2⟩ := (hK1.2 7 (cA, .object C) rfl).2
  have e3 : cA = d k := Option.some.inj (e2.symm.trans e1)
  subst e3
  exact kk q H1 (by rw [← hw]; exact wP_push hP1) (by rw [← hw]; exact wD_push hD1) hS1
theorem g_newq {w1 : Nat → va_W} (hx : p.tables.exec = Jvm.exec) (hb : c.code = cc) (hts : ∀ w ∈ lw_all, w.before args s = true) (hown : s.vm.findClass own = some m.cls) (hK : KK D d s) (hP : va_P D CL w H) (hD : va_D A w) (hS : va_S A s.heap H locs) (hA : ∀ q, s.heap.size ≤ q → A q) (k : Nat) (hk : (TYS d)[k]? = some (d k, .object C)) (hlink : Cond.classLink own index C ∈ lw_all) (hover : Cond.arrayOver (.object C) ∈ lw_tbl) {n : Int32} {N' : Nat} (hn : ¬ n < 0) (hN : n.toNatClampNeg = N') (hbytes : N' * 4 ≤ 536870912) (hcells : cells + 1 ≤ R.cells) (hslots : slots + N' ≤ R.slots) (hw : ∀ q, w ++ [(q, .inl (d k, N', .inr (.inr (.inr (.inr (fun _ => none))))))] = w1 q) (hdg : decode cc pc = .ok (.anewarray index, 3))
    (kk : ∀ (q : Nat) (H1 : Heap), va_P D CL (w1 q) H1 → va_D A (w1 q) → va_S A s.heap H1 locs → W p l e R s m args below meth c H1 locs (cells + 1) (slots + N') Q (F0 m (pc + 3) ls (.ref q :: rest))) : W p l e R s m args below meth c H locs cells slots Q (F0 m pc ls (.int n :: rest)) :=
  g_newqT (tl := []) hx hb hts hown hK (by rw [List.append_nil]; exact hP) (by rw [List.append_nil]; exact hD) hS hA k hk hlink hover hn hN hbytes hcells hslots hw hdg (fun q H1 a1 a2 a3 => kk q H1 (by rw [List.append_nil] at a1; exact a1) (by rw [List.append_nil] at a2; exact a2) a3)
/-- new cells, made by a call, go behind what stays -/
theorem cp_P {y : va_W} (h : va_P D CL (wc ++ (y ++ (wr ++ tl))) H) : va_P D CL (wc ++ (wr ++ (y ++ tl))) H := by
  refine wP_perm ?_ h
  refine List.Perm.append_left _ ?_
  rw [← List.append_assoc, ← List.append_assoc]
  exact List.Perm.append_right _ List.perm_append_comm
theorem cp_D {y : va_W} (h : va_D A (wc ++ (y ++ (wr ++ tl)))) : va_D A (wc ++ (wr ++ (y ++ tl))) := by
  refine wD_perm ?_ h
  refine List.Perm.append_left _ ?_
  rw [← List.append_assoc, ← List.append_assoc]
  exact List.Perm.append_right _ List.perm_append_comm
/-- what a method keeps goes to the tail -/
theorem kp_P {ks t2 : va_W} (h : va_P D CL ((w ++ ks) ++ tl) H) (hw : w = w') (ht : ks ++ tl = t2) : va_P D CL (w' ++ t2) H := by
  subst hw
  subst ht
  rw [List.append_assoc] at h
  exact h
theorem kp_D {A : Nat → Prop} {ks t2 : va_W} (h : va_D A ((w ++ ks) ++ tl)) (hw : w = w') (ht : ks ++ tl = t2) : va_D A (w' ++ t2) := by
  subst hw
  subst ht
  rw [List.append_assoc] at h
  exact h
end KON
