/-! worlds with a tail that is part of the state; addresses not known ahead come as a stream u -/
set_option maxRecDepth 100000
set_option maxHeartbeats 4000000
abbrev UU : Type := Nat → Nat
def ue (u : UU) : UU := fun k => u (2 * k)
def uo (u : UU) : UU := fun k => u (2 * k + 1)
def umix (u v : UU) : UU := fun k => if k % 2 = 0 then u (k / 2) else v (k / 2)
def ucons (q : Nat) (u : UU) : UU := fun k => match k with
  | 0 => q
  | k + 1 => u k
theorem ue_mix (u v : UU) : ue (umix u v) = u := by
  funext k
  simp [ue, umix]
theorem uo_mix (u v : UU) : uo (umix u v) = v := by
  funext k
  have h1 : (2 * k + 1) % 2 = 1 := by omega
  have h2 : (2 * k + 1) / 2 = k := by omega
  simp [uo, umix, h1, h2]
/-- the next new address -/
def ask {α : Type} (u : UU) (k : Nat → UU → Option α) : Option α := k (u 0) (fun j => u (j + 1))
def b2u {α β γ : Type} (u : UU) (x : UU → Option (α × β)) (k : α → β → UU → Option γ) : Option γ := b2 (x (ue u)) (fun r μ => k r μ (uo u))
def b1u {α γ : Type} (u : UU) (x : UU → Option α) (k : α → UU → Option γ) : Option γ := b1 (x (ue u)) (fun μ => k μ (uo u))
section UM
variable {α β γ δ : Type}
theorem gaU {b : Prop} {hb : Decidable b} {x : UU → Option α} {y : UU → α} (h : ∀ u, @ga α b hb (x u) = some (y u)) : b ∧ ∀ u, x u = some (y u) := ⟨(ga_some (h fun _ => 0)).1, fun u => (ga_some (h u)).2⟩
theorem itU_t {c : Prop} {hc : Decidable c} {x y : UU → α} {z : UU → α} (h : ∀ u, @ite α c hc (x u) (y u) = z u) (k : c) : ∀ u, x u = z u := fun u => it_t (h u) k
theorem itU_f {c : Prop} {hc : Decidable c} {x y : UU → α} {z : UU → α} (h : ∀ u, @ite α c hc (x u) (y u) = z u) (k : ¬ c) : ∀ u, y u = z u := fun u => it_f (h u) k
theorem nmU {e : α} {k : UU → α → β} {z : UU → β} (h : ∀ u, nm e (k u) = z u) (v : α) (hv : v = e) : ∀ u, k u v = z u := fun u => nm_some (h u) v hv
theorem b1U {x : Option α} {k : UU → α → Option β} {z : UU → β} (h : ∀ u, b1 x (k u) = some (z u)) : ∃ q, x = some q ∧ ∀ u, k u q = some (z u) := by
  obtain ⟨q, h1, -⟩ := b1_some (h fun _ => 0)
  refine ⟨q, h1, fun u => ?_⟩
  obtain ⟨q', h2, h3⟩ := b1_some (h u)
  cases h1.symm.trans h2
  exact h3
theorem b2U {x : Option (α × β)} {k : UU → α → β → Option γ} {z : UU → γ} (h : ∀ u, b2 x (k u) = some (z u)) : ∃ q1 q2, x = some (q1, q2) ∧ ∀ u, k u q1 q2 = some (z u) := by
  obtain ⟨q1, q2, h1, -⟩ := b2_some (h fun _ => 0)
  refine ⟨q1, q2, h1, fun u => ?_⟩
  obtain ⟨p1, p2, h2, h3⟩ := b2_some (h u)
  cases h1.symm.trans h2
  exact h3
theorem askU {k : Nat → UU → Option α} {z : UU → α} (h : ∀ u, ask u k = some (z u)) (q : Nat) : ∀ u, k q u = some (z (ucons q u)) := fun u => h (ucons q u)
theorem b2u_some {x : UU → Option (α × β)} {k : α → β → UU → Option γ} {z : UU → γ} (h : ∀ u, b2u u x k = some (z u)) : ∃ y : UU → α × β, (∀ u, x u = some (y u)) ∧ ∀ u0 u1, k (y u0).1 (y u0).2 u1 = some (z (umix u0 u1)) := by
  have h1 : ∀ u, ∃ q, x u = some q := fun u => by
    have := h (umix u u)
    unfold b2u at this
    rw [ue_mix] at this
    obtain ⟨q1, q2, h2, -⟩ := b2_some this
    exact ⟨_, h2⟩
  refine ⟨fun u => (h1 u).choose, fun u => (h1 u).choose_spec, fun u0 u1 => ?_⟩
  have h3 := h (umix u0 u1)
  unfold b2u at h3
  rw [ue_mix, uo_mix] at h3
  obtain ⟨q1, q2, h4, h5⟩ := b2_some h3
  have h6 := h4.symm.trans (h1 u0).choose_spec
  have h7 := Option.some.inj h6
  show k (h1 u0).choose.1 (h1 u0).choose.2 u1 = some (z (umix u0 u1))
  rw [← h7]
  exact h5
theorem b1u_some {x : UU → Option α} {k : α → UU → Option γ} {z : UU → γ} (h : ∀ u, b1u u x k = some (z u)) : ∃ y : UU → α, (∀ u, x u = some (y u)) ∧ ∀ u0 u1, k (y u0) u1 = some (z (umix u0 u1)) := by
  have h1 : ∀ u, ∃ q, x u = some q := fun u => by
    have := h (umix u u)
    unfold b1u at this
    rw [ue_mix] at this
    obtain ⟨q1, h2, -⟩ := b1_some this
    exact ⟨_, h2⟩
  refine ⟨fun u => (h1 u).choose, fun u => (h1 u).choose_spec, fun u0 u1 => ?_⟩
  have h3 := h (umix u0 u1)
  unfold b1u at h3
  rw [ue_mix, uo_mix] at h3
  obtain ⟨q1, h4, h5⟩ := b1_some h3
  have h6 := h4.symm.trans (h1 u0).choose_spec
  have h7 := Option.some.inj h6
  show k (h1 u0).choose u1 = some (z (umix u0 u1))
  rw [← h7]
  exact h5
end UM
/-- a guard by any proposition -/
noncomputable def gaP {α : Type} (b : Prop) (x : Option α) : Option α := @ite _ b (Classical.propDecidable b) x none
theorem gaP_some {α : Type} {b : Prop} {x : Option α} {y : α} (h : gaP b x = some y) : b ∧ x = some y := by
  unfold gaP at h
  by_cases hb : b
  · rw [if_pos hb] at h; exact ⟨hb, h⟩
  · rw [if_neg hb] at h; cases h
theorem gaP_t {α : Type} {b : Prop} {x : Option α} (h : b) : gaP b x = x := by
  unfold gaP
  rw [if_pos h]
theorem gaPU {α : Type} {b : Prop} {x : UU → Option α} {y : UU → α} (h : ∀ u, gaP b (x u) = some (y u)) : b ∧ ∀ u, x u = some (y u) := ⟨(gaP_some (h fun _ => 0)).1, fun u => (gaP_some (h u)).2⟩
/-- the state behind a call that knows the evaluating cells alone -/
def xmrg (ξ ξ' : XS) : XS := (fun k => cond (Nat.blt k 70) (ξ'.1 k) (ξ.1 k), ξ'.2.1, ξ'.2.2.1, ξ'.2.2.2.1, ξ.2.2.2.2)
section XWR
variable {p : Program} {l : Launch} {e : Env} {R : Room} {s : State} {m : MethodId} {args : Array Value} {below : List Frame} {meth : Method} {c : Code} {H : Heap} {locs : List Loc} {cells slots : Nat} {Q : State → Prop}
variable {pc : Nat} {ls : Array Slot} {rest st0 : List Value} {A : Nat → Prop} {cc bytes : ByteArray} {nL maxL n index mc ms : Nat} {own C : String} {y : MethodName} {ret : Option FieldType} {ws : List Cond} {rm : Room} {D : va_G} {d : Nat → ClassId} {z : ZT} {av : List Value} {a : Array Value} {w wc wr wc' tl w' : va_W} {isC isR perm : List Nat} {o ci : Nat} {fs : List Value} {T : u_T} {N : Nat}
/-- a new cell stands ahead of the tail -/
theorem wP_push {ce : Nat × va_E} (h : va_P D CL ((w ++ tl) ++ [ce]) H) : va_P D CL ((w ++ [ce]) ++ tl) H := wP_perm (by rw [List.append_assoc, List.append_assoc]; exact List.Perm.append_left _ List.perm_append_comm) h
theorem wD_push {ce : Nat × va_E} (h : va_D A ((w ++ tl) ++ [ce])) : va_D A ((w ++ [ce]) ++ tl) := wD_perm (by rw [List.append_assoc, List.append_assoc]; exact List.Perm.append_left _ List.perm_append_comm) h
theorem g_newT {w1 : Nat → va_W} (hx : p.tables.exec = Jvm.exec) (hb : c.code = cc) (hts : ∀ w ∈ lw_all, w.before args s = true) (hown : s.vm.findClass own = some m.cls) (hK : KK D d s) (hP : va_P D CL (w ++ tl) H) (hD : va_D A (w ++ tl)) (hS : va_S A s.heap H locs) (hA : ∀ q, s.heap.size ≤ q → A q) (hin : ∀ w ∈ u_ws C T N, w ∈ lw_all) (ty : Nat → FieldType) (hty : ∀ k, k < N → parseFieldDescriptor (T k).2.2.1 = some (ty k)) (hcl : Cond.classLink own index C ∈ lw_all) (hinst : Cond.instantiable C N ∈ lw_all) (hini : Cond.initialized C ∈ lw_all) (hc : CL[ci]? = some (C, T, N)) {fs : List Value} (hfs : ∀ j, j < N → defaultValue (ty j) = vp_V fs j) (hcells : cells + 1 ≤ R.cells) (hslots : slots + N ≤ R.slots) (hw : ∀ q, w ++ [(q, .inr (ci, fs))] = w1 q) (hdg : decode cc pc = .ok (.new index, 3))
    (kk : ∀ (q : Nat) (H1 : Heap), va_P D CL (w1 q ++ tl) H1 → va_D A (w1 q ++ tl) → va_S A s.heap H1 locs → W p l e R s m args below meth c H1 locs (cells + 1) (slots + N) Q (F0 m (pc + 3) ls (.ref q :: rest))) : W p l e R s m args below meth c H locs cells slots Q (F0 m pc ls rest) :=
  g_new hx hb hts hown hK hP hD hS hA hin ty hty hcl hinst hini hc hfs hcells hslots (w1 := fun q => (w ++ tl) ++ [(q, .inr (ci, fs))]) (fun _ => rfl) hdg (fun q H1 a1 a2 a3 => kk q H1 (by rw [← hw]; exact wP_push a1) (by rw [← hw]; exact wD_push a2) a3)
/-- what the tail holds -/
theorem g_getM (hx : p.tables.exec = Jvm.exec) (hb : c.code = cc) (hts : ∀ w ∈ lw_all, w.before args s = true) (hown : s.vm.findClass own = some m.cls) (hK : KK D d s) (hP : va_P D CL (w ++ tl) H) (hin : ∀ w ∈ u_ws C T N, w ∈ lw_all) (he : (o, .inr (ci, fs)) ∈ tl) (hc : CL[ci]? = some (C, T, N)) (k : Nat) (hk : k < N) {ref : String} (hlink : Cond.fieldLink own index ref (T k).2.1 (T k).2.2.1 ∈ lw_all) (hsame : ∀ x, s.fieldFound? (T k).1 (T k).2.1 (T k).2.2.1 = some x → s.fieldFound? ref (T k).2.1 (T k).2.2.1 = some x) {v : Value} (hv : fs[k]? = some v) (hdg : decode cc pc = .ok (.getfield index, 3))
    (kk : W p l e R s m args below meth c H locs cells slots Q (F0 m (pc + 3) ls (v :: rest))) : W p l e R s m args below meth c H locs cells slots Q (F0 m pc ls (.ref o :: rest)) := by
  obtain ⟨i0, hi0⟩ := List.getElem?_of_mem (List.mem_append_right w he)
  exact g_get hx hb hts hown hK hP hin i0 hi0 hc k hk hlink hsame hv hdg kk
theorem g_getMN (hx : p.tables.exec = Jvm.exec) (hb : c.code = cc) (hts : ∀ w ∈ lw_all, w.before args s = true) (hown : s.vm.findClass own = some m.cls) (hK : KK D d s) (hP : va_P D CL (w ++ tl) H) (hin : ∀ w ∈ u_ws C T N, w ∈ lw_all) (he : (o, .inr (ci, fs)) ∈ tl) (hc : CL[ci]? = some (C, T, N)) (k : Nat) (hk : k < N) {ref host : String} (hlink : Cond.fieldLinkNest own index ref (T k).2.1 (T k).2.2.1 host ∈ lw_tbl) (hsame : ∀ x, s.fieldFound? (T k).1 (T k).2.1 (T k).2.2.1 = some x → s.fieldFound? ref (T k).2.1 (T k).2.2.1 = some x) {v : Value} (hv : fs[k]? = some v) (hdg : decode cc pc = .ok (.getfield index, 3))
    (kk : W p l e R s m args below meth c H locs cells slots Q (F0 m (pc + 3) ls (v :: rest))) : W p l e R s m args below meth c H locs cells slots Q (F0 m pc ls (.ref o :: rest)) := by
  obtain ⟨i0, hi0⟩ := List.getElem?_of_mem (List.mem_append_right w he)
  exact g_getN hx hb hts hown hK hP hin i0 hi0 hc k hk hlink hsame hv hdg kk
theorem recvM (hK : KK D d s) (hP : va_P D CL w H) {r : vw_C} (hc : CL[ci]? = some r) (he : (o, .inr (ci, fs)) ∈ w) : ∃ cell : Cell, H[o]? = some cell ∧ cell.vm.isStatics = false ∧ s.vm.findClass r.1 = some cell.cls := by
  obtain ⟨i0, hi0⟩ := List.getElem?_of_mem he
  exact va_recv hK.1 hP hc hi0
theorem g_castM (hx : p.tables.exec = Jvm.exec) (hb : c.code = cc) (hts : ∀ w ∈ lw_all, w.before args s = true) (hown : s.vm.findClass own = some m.cls) (hK : KK D d s) (hP : va_P D CL w H) (hc : CL[ci]? = some (C, T, N)) (he : (o, .inr (ci, fs)) ∈ w) (hlink : Cond.classLink own index C ∈ lw_all) (hdg : decode cc pc = .ok (.checkcast index, 3))
    (kk : W p l e R s m args below meth c H locs cells slots Q (F0 m (pc + 3) ls (.ref o :: rest))) : W p l e R s m args below meth c H locs cells slots Q (F0 m pc ls (.ref o :: rest)) :=
  va_castE hx hb hown (hts _ hlink) (recvM hK hP hc he) hdg kk
/-- a call whose contract takes a tail: what stays behind is in that tail -/
theorem tail_perm (hC : isC.map (fun i => w[i]?) = wc.map some) (hR : isR.map (fun i => w[i]?) = wr.map some) (hall : va_nd (isC ++ isR) = true) : ∃ is : List Nat, va_nd is = true ∧ is.map (fun i => w[i]?) = (wc ++ wr).map some := ⟨isC ++ isR, hall, by rw [List.map_append, List.map_append, hC, hR]⟩
theorem toT_P (hP : va_P D CL (w ++ tl) H) (hC : isC.map (fun i => w[i]?) = wc.map some) (hR : isR.map (fun i => w[i]?) = wr.map some) : va_P D CL (wc ++ (wr ++ tl)) H := by
  rw [← List.append_assoc]
  exact wP_subT hP (isC ++ isR) (by rw [List.map_append, List.map_append, hC, hR])
theorem toT_D (hD : va_D A (w ++ tl)) (hC : isC.map (fun i => w[i]?) = wc.map some) (hR : isR.map (fun i => w[i]?) = wr.map some) (hall : va_nd (isC ++ isR) = true) : va_D A (wc ++ (wr ++ tl)) := by
  rw [← List.append_assoc]
  exact wD_subT hD (isC ++ isR) hall (by rw [List.map_append, List.map_append, hC, hR])
theorem ofT_P (hP : va_P D CL (wc' ++ (wr ++ tl)) H) (hw : perm.map (fun i => (wc' ++ wr)[i]?) = w'.map some) : va_P D CL (w' ++ tl) H := by
  rw [← List.append_assoc] at hP
  exact wP_subT hP perm hw
theorem ofT_D (hD : va_D A (wc' ++ (wr ++ tl))) (hnp : va_nd perm = true) (hw : perm.map (fun i => (wc' ++ wr)[i]?) = w'.map some) : va_D A (w' ++ tl) := by
  rw [← List.append_assoc] at hD
  exact wD_subT hD perm hnp hw
/-- the frame rule, for parts of any length -/
theorem frame_join {wA wB w1 : va_W} {H1 : Heap} (hP : va_P D CL (wA ++ wB) H) (hD : va_D A (wA ++ wB)) (hk : ∀ q : Nat, q < H.size → ¬ va_A wA H.size q → H1[q]? = H[q]?) (hF : ∀ q, va_A wA H.size q → A q) (hP1 : va_P D CL w1 H1) (hD1 : va_D (va_A wA H.size) w1) : va_P D CL (w1 ++ wB) H1 ∧ va_D A (w1 ++ wB) := by
  have hPm := wP_iff.mp hP
  have hDm := wD_iff.mp hD
  rw [List.map_append] at hDm
  have hnd := List.nodup_append.mp hDm.1
  have apart : ∀ q ∈ wB, q.1 < H.size ∧ ¬ va_A wA H.size q.1 := by
    intro q hq
    have hl := (hPm q (List.mem_append_right _ hq)).lt
    refine ⟨hl, fun h => ?_⟩
    rcases h with ⟨k, e, h⟩ | h
    · exact hnd.2.2 q.1 (List.mem_map_of_mem (f := fun q => q.1) (List.mem_of_getElem? h)) q.1 (List.mem_map_of_mem hq) rfl
    · omega
  have hD1m := wD_iff.mp hD1
  refine ⟨wP_iff.mpr fun q hq => ?_, wD_iff.mpr ⟨?_, fun q hq => ?_⟩⟩
  · rcases List.mem_append.mp hq with h | h
    · exact wP_iff.mp hP1 q h
    · exact (hPm q (List.mem_append_right _ h)).kept (hk q.1 (apart q h).1 (apart q h).2)
  · rw [List.map_append]
    refine List.nodup_append.mpr ⟨hD1m.1, hnd.2.1, fun a ha b hb => ?_⟩
    obtain ⟨q1, h1, rfl⟩ := List.mem_map.mp ha
    obtain ⟨q2, h2, rfl⟩ := List.mem_map.mp hb
    intro he
    exact (apart q2 h2).2 (he ▸ hD1m.2 q1 h1)
  · rcases List.mem_append.mp hq with h | h
    · exact hF q.1 (hD1m.2 q h)
    · exact hDm.2 q (List.mem_append_right _ h)
theorem perm3 {wA wB tl : va_W} : ((wA ++ wB) ++ tl).Perm ((wA ++ tl) ++ wB) := by
  rw [List.append_assoc, List.append_assoc]
  exact List.Perm.append_left _ List.perm_append_comm
theorem runX_v {wA wB : va_W} {wA' tl' : va_W} (hr : va_Run p l e R s m args below meth c H locs cells slots mc ms (F0 m pc ls st0) rest (va_Qv (fun (_ : Unit) => True) (fun _ t => Bw D (va_A (wA ++ tl) H.size) (wA' ++ tl') t) (va_A (wA ++ tl) H.size) a) (va_A (wA ++ tl) H.size)) (hP : va_P D CL ((wA ++ wB) ++ tl) H) (hD : va_D A ((wA ++ wB) ++ tl)) (hS : va_S A s.heap H locs) (hA : ∀ q, s.heap.size ≤ q → A q)
    (kk : ∀ (H1 : Heap) (locs1 : List Loc), va_P D CL ((wA' ++ wB) ++ tl') H1 → va_D A ((wA' ++ wB) ++ tl') → va_S A s.heap H1 locs1 → W p l e R s m args below meth c H1 locs1 (cells + mc) (slots + ms) Q (F0 m (pc + 3) ls (rest))) : W p l e R s m args below meth c H locs cells slots Q (F0 m pc ls st0) := by
  have hP2 := wP_perm perm3 hP
  have hD2 := wD_perm perm3 hD
  have hD3 : va_D A (wA ++ tl) := wD_iff.mpr ⟨by
    have := (wD_iff.mp hD2).1
    rw [List.map_append] at this
    exact (List.nodup_append.mp this).1, fun q hq => (wD_iff.mp hD2).2 q (List.mem_append_left _ hq)⟩
  have hF := va_freeAll hD3 hS hA
  refine va_callv hr hS (fun q _ h => hF q h) hF (fun u t H1 locs1 ht hvm hp hB hz hk hS1 => ?_)
  skip
  obtain ⟨b1, b2⟩ := frame_join hP2 hD2 hk hF (by rw [← ht]; exact hB.1) hB.2
  exact kk H1 locs1 (wP_perm perm3.symm b1) (wD_perm perm3.symm b2) hS1
theorem runX_vS {wA wB : va_W} {S : Type} {φ : S → Prop} {wA' tl' : S → va_W} (hr : va_Run p l e R s m args below meth c H locs cells slots mc ms (F0 m pc ls st0) rest (va_Qv (fun (u : S) => φ u) (fun u t => Bw D (va_A (wA ++ tl) H.size) (wA' u ++ tl' u) t) (va_A (wA ++ tl) H.size) a) (va_A (wA ++ tl) H.size)) (hP : va_P D CL ((wA ++ wB) ++ tl) H) (hD : va_D A ((wA ++ wB) ++ tl)) (hS : va_S A s.heap H locs) (hA : ∀ q, s.heap.size ≤ q → A q)
    (kk : ∀ (u : S), φ u → ∀ (H1 : Heap) (locs1 : List Loc), va_P D CL ((wA' u ++ wB) ++ tl' u) H1 → va_D A ((wA' u ++ wB) ++ tl' u) → va_S A s.heap H1 locs1 → W p l e R s m args below meth c H1 locs1 (cells + mc) (slots + ms) Q (F0 m (pc + 3) ls (rest))) : W p l e R s m args below meth c H locs cells slots Q (F0 m pc ls st0) := by
  have hP2 := wP_perm perm3 hP
  have hD2 := wD_perm perm3 hD
  have hD3 : va_D A (wA ++ tl) := wD_iff.mpr ⟨by
    have := (wD_iff.mp hD2).1
    rw [List.map_append] at this
    exact (List.nodup_append.mp this).1, fun q hq => (wD_iff.mp hD2).2 q (List.mem_append_left _ hq)⟩
  have hF := va_freeAll hD3 hS hA
  refine va_callv hr hS (fun q _ h => hF q h) hF (fun u t H1 locs1 ht hvm hp hB hz hk hS1 => ?_)
  have hφ := hp
  obtain ⟨b1, b2⟩ := frame_join hP2 hD2 hk hF (by rw [← ht]; exact hB.1) hB.2
  exact kk u hφ H1 locs1 (wP_perm perm3.symm b1) (wD_perm perm3.symm b2) hS1
theorem runX_i {wA wB : va_W} {wA' tl' : va_W} {r : Int32} (hr : va_Run p l e R s m args below meth c H locs cells slots mc ms (F0 m pc ls st0) rest (va_Qi (fun (r1 : Int32) (_ : Unit) => r1 = r) (fun _ t => Bw D (va_A (wA ++ tl) H.size) (wA' ++ tl') t) (va_A (wA ++ tl) H.size) a) (va_A (wA ++ tl) H.size)) (hP : va_P D CL ((wA ++ wB) ++ tl) H) (hD : va_D A ((wA ++ wB) ++ tl)) (hS : va_S A s.heap H locs) (hA : ∀ q, s.heap.size ≤ q → A q)
    (kk : ∀ (H1 : Heap) (locs1 : List Loc), va_P D CL ((wA' ++ wB) ++ tl') H1 → va_D A ((wA' ++ wB) ++ tl') → va_S A s.heap H1 locs1 → W p l e R s m args below meth c H1 locs1 (cells + mc) (slots + ms) Q (F0 m (pc + 3) ls (.int r :: rest))) : W p l e R s m args below meth c H locs cells slots Q (F0 m pc ls st0) := by
  have hP2 := wP_perm perm3 hP
  have hD2 := wD_perm perm3 hD
  have hD3 : va_D A (wA ++ tl) := wD_iff.mpr ⟨by
    have := (wD_iff.mp hD2).1
    rw [List.map_append] at this
    exact (List.nodup_append.mp this).1, fun q hq => (wD_iff.mp hD2).2 q (List.mem_append_left _ hq)⟩
  have hF := va_freeAll hD3 hS hA
  refine va_calli hr hS (fun q _ h => hF q h) hF (fun r1 u t H1 locs1 ht hvm hp hB hz hk hS1 => ?_)
  subst hp
  obtain ⟨b1, b2⟩ := frame_join hP2 hD2 hk hF (by rw [← ht]; exact hB.1) hB.2
  exact kk H1 locs1 (wP_perm perm3.symm b1) (wD_perm perm3.symm b2) hS1
theorem runX_iS {wA wB : va_W} {S : Type} {φ : S → Prop} {wA' tl' : S → va_W} {r : S → Int32} (hr : va_Run p l e R s m args below meth c H locs cells slots mc ms (F0 m pc ls st0) rest (va_Qi (fun (r1 : Int32) (u : S) => r1 = r u ∧ φ u) (fun u t => Bw D (va_A (wA ++ tl) H.size) (wA' u ++ tl' u) t) (va_A (wA ++ tl) H.size) a) (va_A (wA ++ tl) H.size)) (hP : va_P D CL ((wA ++ wB) ++ tl) H) (hD : va_D A ((wA ++ wB) ++ tl)) (hS : va_S A s.heap H locs) (hA : ∀ q, s.heap.size ≤ q → A q)
    (kk : ∀ (u : S), φ u → ∀ (H1 : Heap) (locs1 : List Loc), va_P D CL ((wA' u ++ wB) ++ tl' u) H1 → va_D A ((wA' u ++ wB) ++ tl' u) → va_S A s.heap H1 locs1 → W p l e R s m args below meth c H1 locs1 (cells + mc) (slots + ms) Q (F0 m (pc + 3) ls (.int (r u) :: rest))) : W p l e R s m args below meth c H locs cells slots Q (F0 m pc ls st0) := by
  have hP2 := wP_perm perm3 hP
  have hD2 := wD_perm perm3 hD
  have hD3 : va_D A (wA ++ tl) := wD_iff.mpr ⟨by
    have := (wD_iff.mp hD2).1
    rw [List.map_append] at this
    exact (List.nodup_append.mp this).1, fun q hq => (wD_iff.mp hD2).2 q (List.mem_append_left _ hq)⟩
  have hF := va_freeAll hD3 hS hA
  refine va_calli hr hS (fun q _ h => hF q h) hF (fun r1 u t H1 locs1 ht hvm hp hB hz hk hS1 => ?_)
  obtain ⟨rfl, hφ⟩ := hp
  obtain ⟨b1, b2⟩ := frame_join hP2 hD2 hk hF (by rw [← ht]; exact hB.1) hB.2
  exact kk u hφ H1 locs1 (wP_perm perm3.symm b1) (wD_perm perm3.symm b2) hS1
theorem runX_rS {wA wB : va_W} {S : Type} {φ : S → Prop} {wA' tl' : S → va_W} {r : S → Nat} (hr : va_Run p l e R s m args below meth c H locs cells slots mc ms (F0 m pc ls st0) rest (va_Qr (fun (u : S) => φ u) (fun u a t => a = r u ∧ Bw D (va_A (wA ++ tl) H.size) (wA' u ++ tl' u) t) (va_A (wA ++ tl) H.size) a) (va_A (wA ++ tl) H.size)) (hP : va_P D CL ((wA ++ wB) ++ tl) H) (hD : va_D A ((wA ++ wB) ++ tl)) (hS : va_S A s.heap H locs) (hA : ∀ q, s.heap.size ≤ q → A q)
    (kk : ∀ (u : S), φ u → ∀ (H1 : Heap) (locs1 : List Loc), va_P D CL ((wA' u ++ wB) ++ tl' u) H1 → va_D A ((wA' u ++ wB) ++ tl' u) → va_S A s.heap H1 locs1 → W p l e R s m args below meth c H1 locs1 (cells + mc) (slots + ms) Q (F0 m (pc + 3) ls (.ref (r u) :: rest))) : W p l e R s m args below meth c H locs cells slots Q (F0 m pc ls st0) := by
  have hP2 := wP_perm perm3 hP
  have hD2 := wD_perm perm3 hD
  have hD3 : va_D A (wA ++ tl) := wD_iff.mpr ⟨by
    have := (wD_iff.mp hD2).1
    rw [List.map_append] at this
    exact (List.nodup_append.mp this).1, fun q hq => (wD_iff.mp hD2).2 q (List.mem_append_left _ hq)⟩
  have hF := va_freeAll hD3 hS hA
  refine va_callr hr hS (fun q _ h => hF q h) hF (fun u a1 t H1 locs1 ht hvm hp hB hz hk hS1 => ?_)
  obtain ⟨rfl, hB⟩ := hB; have hφ := hp
  obtain ⟨b1, b2⟩ := frame_join hP2 hD2 hk hF (by rw [← ht]; exact hB.1) hB.2
  exact kk u hφ H1 locs1 (wP_perm perm3.symm b1) (wD_perm perm3.symm b2) hS1
theorem Pw.atX {wA wB : va_W} {U : State} (hK : KK D d s) (hP : va_P D CL ((wA ++ wB) ++ tl) H) (hD : va_D A ((wA ++ wB) ++ tl)) (hZ : ZZ z A s s.heap) (hS : va_S A s.heap H locs) (hA : ∀ q, s.heap.size ≤ q → A q) (hU : U.heap = H) (hW : s.WarmedH U.vm) : Pw D d z av H.size (wA ++ tl) av.toArray U := by
  have hP2 := wP_perm perm3 hP
  have hD2 := wD_perm perm3 hD
  refine Pw.at hK (wP_iff.mpr fun q hq => wP_iff.mp hP2 q (List.mem_append_left _ hq)) ?_ hZ hS hA hU hW
  refine wD_iff.mpr ⟨?_, fun q hq => (wD_iff.mp hD2).2 q (List.mem_append_left _ hq)⟩
  have := (wD_iff.mp hD2).1
  rw [List.map_append] at this
  exact (List.nodup_append.mp this).1
/-- the Entry that stands at an address of the tail -/
noncomputable def entOf (tl : va_W) (q : Nat) : Option (Int32 × Int32 × Int32) := @dite _ (∃ t : Int32 × Int32 × Int32, (q, (.inr (16, [.int t.1, .int t.2.1, .int t.2.2]) : va_E)) ∈ tl) (Classical.propDecidable _) (fun h => some h.choose) (fun _ => none)
theorem entOf_mem {tl : va_W} {q : Nat} {t : Int32 × Int32 × Int32} (h : entOf tl q = some t) : (q, .inr (16, [.int t.1, .int t.2.1, .int t.2.2])) ∈ tl := by
  unfold entOf at h
  split at h
  · rename_i hx
    have := Option.some.inj h
    subst this
    exact hx.choose_spec
  · cases h
end XWR
