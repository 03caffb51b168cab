/-! calls in general: a part of the world goes along, the rest stays (a tail, too, of unknown length) -/
set_option maxRecDepth 100000
set_option maxHeartbeats 4000000
theorem nd_iff : ∀ (l : List Nat), va_nd l = true ↔ l.Nodup
  | [] => by simp [va_nd]
  | a :: l => by simp [va_nd, nd_iff l]
theorem wP_iff {D : va_G} {cl : List vw_C} {ws : va_W} {H : Heap} : va_P D cl ws H ↔ ∀ q ∈ ws, va_at D cl q H := by
  constructor
  · intro h q hq
    obtain ⟨i, hi⟩ := List.getElem?_of_mem hq
    exact h i q hi
  · intro h k q hk
    exact h q (List.mem_of_getElem? hk)
theorem wD_iff {A : Nat → Prop} {ws : va_W} : va_D A ws ↔ (ws.map (fun q => q.1)).Nodup ∧ ∀ q ∈ ws, A q.1 := by
  constructor
  · intro h
    refine ⟨?_, fun q hq => ?_⟩
    · rw [List.Nodup, List.pairwise_iff_getElem]
      intro i j hi hj hij he
      rw [List.length_map] at hi hj
      rw [List.getElem_map, List.getElem_map] at he
      have := h.1 i j ws[i] ws[j] (List.getElem?_eq_getElem hi) (List.getElem?_eq_getElem hj) he
      omega
    · obtain ⟨i, hi⟩ := List.getElem?_of_mem hq
      exact h.2 i q hi
  · intro h
    refine ⟨fun i j p q hi hj he => ?_, fun k q hk => h.2 q (List.mem_of_getElem? hk)⟩
    have h1 := h.1
    rw [List.Nodup, List.pairwise_iff_getElem] at h1
    obtain ⟨hi', rfl⟩ := List.getElem?_eq_some_iff.mp hi
    obtain ⟨hj', rfl⟩ := List.getElem?_eq_some_iff.mp hj
    rcases Nat.lt_trichotomy i j with q | q | q
    · exact absurd (by rw [List.getElem_map, List.getElem_map]; exact he) (h1 i j (by simpa using hi') (by simpa using hj') q)
    · exact q
    · exact absurd (by rw [List.getElem_map, List.getElem_map]; exact he.symm) (h1 j i (by simpa using hj') (by simpa using hi') q)
theorem wP_perm {D : va_G} {cl : List vw_C} {ws ws' : va_W} {H : Heap} (p : ws.Perm ws') (h : va_P D cl ws H) : va_P D cl ws' H := wP_iff.mpr fun q hq => wP_iff.mp h q (p.mem_iff.mpr hq)
theorem wD_perm {A : Nat → Prop} {ws ws' : va_W} (p : ws.Perm ws') (h : va_D A ws) : va_D A ws' := by
  have h := wD_iff.mp h
  exact wD_iff.mpr ⟨((p.map (fun q => q.1)).nodup_iff).mp h.1, fun q hq => h.2 q (p.mem_iff.mpr hq)⟩
theorem ext_is {w w1 tl : va_W} {is : List Nat} (h : is.map (fun i => w[i]?) = w1.map some) : (is ++ (List.range tl.length).map (fun k => w.length + k)).map (fun i => (w ++ tl)[i]?) = (w1 ++ tl).map some := by
  rw [List.map_append, List.map_append]
  congr 1
  · rw [← h]
    refine List.map_congr_left fun i hi => ?_
    have hm : w[i]? ∈ w1.map some := by rw [← h]; exact List.mem_map_of_mem hi
    obtain ⟨q, -, hq⟩ := List.mem_map.mp hm
    rw [List.getElem?_append_left (List.getElem?_eq_some_iff.mp hq.symm).1]
  · apply List.ext_getElem?
    intro k
    rw [List.map_map, List.getElem?_map, List.getElem?_map]
    by_cases hk : k < tl.length
    · rw [List.getElem?_range hk]
      simp [hk]
    · rw [List.getElem?_eq_none (by simpa using hk), List.getElem?_eq_none (by simpa using hk)]
      rfl
theorem ext_nd {w w1 tl : va_W} {is : List Nat} (h : is.map (fun i => w[i]?) = w1.map some) (hn : va_nd is = true) : va_nd (is ++ (List.range tl.length).map (fun k => w.length + k)) = true := by
  rw [nd_iff] at hn ⊢
  refine List.nodup_append.mpr ⟨hn, ?_, ?_⟩
  · refine List.Pairwise.map _ (fun a b hab => ?_) List.nodup_range
    omega
  · intro a ha b hb
    have hm : w[a]? ∈ w1.map some := by rw [← h]; exact List.mem_map_of_mem ha
    obtain ⟨q, -, hq⟩ := List.mem_map.mp hm
    have hl := (List.getElem?_eq_some_iff.mp hq.symm).1
    obtain ⟨k, -, rfl⟩ := List.mem_map.mp hb
    omega
theorem wP_subT {D : va_G} {cl : List vw_C} {w w1 tl : va_W} {H : Heap} (hP : va_P D cl (w ++ tl) H) (is : List Nat) (h : is.map (fun i => w[i]?) = w1.map some) : va_P D cl (w1 ++ tl) H := by
  refine wP_iff.mpr fun q hq => ?_
  rcases List.mem_append.mp hq with hq | hq
  · have hm : some q ∈ is.map (fun i => w[i]?) := by rw [h]; exact List.mem_map_of_mem hq
    obtain ⟨i, -, hi⟩ := List.mem_map.mp hm
    exact wP_iff.mp hP q (List.mem_append_left _ (List.mem_of_getElem? hi))
  · exact wP_iff.mp hP q (List.mem_append_right _ hq)
theorem wD_subT {A : Nat → Prop} {w w1 tl : va_W} (hD : va_D A (w ++ tl)) (is : List Nat) (hn : va_nd is = true) (h : is.map (fun i => w[i]?) = w1.map some) : va_D A (w1 ++ tl) := hD.sub _ (ext_nd h hn) (ext_is h)
theorem wP_cut {D : va_G} {cl : List vw_C} {w w1 tl : va_W} {H : Heap} (hP : va_P D cl (w ++ tl) H) (is : List Nat) (h : is.map (fun i => w[i]?) = w1.map some) : va_P D cl w1 H := wP_iff.mpr fun q hq => wP_iff.mp (wP_subT hP is h) q (List.mem_append_left _ hq)
theorem wD_cut {A : Nat → Prop} {w w1 tl : va_W} (hD : va_D A (w ++ tl)) (is : List Nat) (hn : va_nd is = true) (h : is.map (fun i => w[i]?) = w1.map some) : va_D A w1 := by
  have h1 := wD_iff.mp (wD_subT hD is hn h)
  rw [List.map_append] at h1
  exact wD_iff.mpr ⟨(List.nodup_append.mp h1.1).1, fun q hq => h1.2 q (List.mem_append_left _ hq)⟩
section JOIN
variable {A : Nat → Prop} {D : va_G} {w wc wr w1 tl : va_W} {H H1 H0 : Heap} {locs : List Loc}
/-- the parts of a world that a call takes along: where they are, what is left, how all is put back -/
theorem cut_free (hD : va_D A (w ++ tl)) (hS : va_S A H0 H locs) (hA : ∀ q, H0.size ≤ q → A q) {isC : List Nat} (hC : isC.map (fun i => w[i]?) = wc.map some) (hn : va_nd isC = true) : ∀ q, va_A wc H.size q → A q := va_freeAll (wD_cut hD isC hn hC) hS hA
theorem cut_join (hP : va_P D CL (w ++ tl) H) (hD : va_D A (w ++ tl)) {isC isR perm : List Nat} {w' : va_W} (hC : isC.map (fun i => w[i]?) = wc.map some) (hR : isR.map (fun i => w[i]?) = wr.map some) (hn : va_nd isR = true) (hdis : ∀ i ∈ isR, i ∉ isC) (hnp : va_nd perm = true) (hw : perm.map (fun i => (wr ++ w1)[i]?) = w'.map some)
    (hk : ∀ q : Nat, q < H.size → ¬ va_A wc H.size q → H1[q]? = H[q]?) (hF : ∀ q, va_A wc H.size q → A q) (hP1 : va_P D CL w1 H1) (hD1 : va_D (va_A wc H.size) w1) : va_P D CL (w' ++ tl) H1 ∧ va_D A (w' ++ tl) := by
  have hC' : (isC.map (fun i => (w ++ tl)[i]?)) = wc.map some := by
    rw [← hC]
    refine List.map_congr_left fun i hi => ?_
    have hm : w[i]? ∈ wc.map some := by rw [← hC]; exact List.mem_map_of_mem hi
    obtain ⟨q, -, hq⟩ := List.mem_map.mp hm
    rw [List.getElem?_append_left (List.getElem?_eq_some_iff.mp hq.symm).1]
  obtain ⟨a1, a2⟩ := va_join (wr := wr ++ tl) hP hD isC (isR ++ (List.range tl.length).map (fun k => w.length + k)) hC' (ext_is hR) (ext_nd hR hn) (fun i hi => by
    rcases List.mem_append.mp hi with hi | hi
    · exact hdis i hi
    · intro hc
      have hm : w[i]? ∈ wc.map some := by rw [← hC]; exact List.mem_map_of_mem hc
      obtain ⟨q, -, hq⟩ := List.mem_map.mp hm
      have hl := (List.getElem?_eq_some_iff.mp hq.symm).1
      obtain ⟨k, -, rfl⟩ := List.mem_map.mp hi
      omega) hk hF hP1 hD1
  have pp : ((wr ++ tl) ++ w1).Perm ((wr ++ w1) ++ tl) := by
    rw [List.append_assoc, List.append_assoc]
    exact List.Perm.append_left _ List.perm_append_comm
  exact ⟨wP_subT (wP_perm pp a1) perm hw, wD_subT (wD_perm pp a2) perm hnp hw⟩
end JOIN
/-- contracts with what is not known ahead (S) -/
def CIS {S : Type} (l : Launch) (y : MethodName) (ws : List Cond) (rm : Room) (D : va_G) (d : Nat → ClassId) (z : ZT) (av : List Value) (w : va_W) (r : S → Int32) (w' : S → va_W) (φ : S → Prop) : Prop :=
  ∀ sz : Nat, Met l y ws rm (Pw D d z av sz w) (va_Qi (fun (r1 : Int32) (u : S) => r1 = r u ∧ φ u) (fun u t => Bw D (va_A w sz) (w' u) t) (va_A w sz)) rm.cells rm.slots (va_A w sz)
def CVS {S : Type} (l : Launch) (y : MethodName) (ws : List Cond) (rm : Room) (D : va_G) (d : Nat → ClassId) (z : ZT) (av : List Value) (w : va_W) (w' : S → va_W) (φ : S → Prop) : Prop :=
  ∀ sz : Nat, Met l y ws rm (Pw D d z av sz w) (va_Qv (fun (u : S) => φ u) (fun u t => Bw D (va_A w sz) (w' u) t) (va_A w sz)) rm.cells rm.slots (va_A w sz)
def CRS {S : Type} (l : Launch) (y : MethodName) (ws : List Cond) (rm : Room) (D : va_G) (d : Nat → ClassId) (z : ZT) (av : List Value) (w : va_W) (r : S → Nat) (w' : S → va_W) (φ : S → Prop) : Prop :=
  ∀ sz : Nat, Met l y ws rm (Pw D d z av sz w) (va_Qr (fun (u : S) => φ u) (fun u a t => a = r u ∧ Bw D (va_A w sz) (w' u) t) (va_A w sz)) rm.cells rm.slots (va_A w sz)
section RUN
variable {p : Program} {l : Launch} {e : Env} {R : Room} {s : State} {m : MethodId} {args : Array Value} {below : List Frame} {meth : Method} {c : Code} {H : Heap} {locs : List Loc} {cells slots : Nat} {Q : State → Prop}
variable {pc : Nat} {ls : Array Slot} {rest st0 : List Value} {A : Nat → Prop} {cc bytes : ByteArray} {nL maxL n index mc ms : Nat} {own C : String} {y : MethodName} {ret : Option FieldType} {ws : List Cond} {rm : Room} {D : va_G} {d : Nat → ClassId} {z : ZT} {av : List Value} {a : Array Value} {w wc wr wc' tl w' : va_W} {isC isR perm : List Nat}
theorem Pw.cut {U : State} (hK : KK D d s) (hP : va_P D CL (w ++ tl) H) (hD : va_D A (w ++ tl)) (hZ : ZZ z A s s.heap) (hS : va_S A s.heap H locs) (hA : ∀ q, s.heap.size ≤ q → A q) (isC : List Nat) (hC : isC.map (fun i => w[i]?) = wc.map some) (hn : va_nd isC = true) (hU : U.heap = H) (hW : s.WarmedH U.vm) : Pw D d z av H.size wc av.toArray U :=
  Pw.at hK (wP_cut hP isC hC) (wD_cut hD isC hn hC) hZ hS hA hU hW
theorem run_iS {S : Type} {r : S → Int32} {φ : S → Prop} {wc' : S → va_W} {w' : S → va_W} (hr : va_Run p l e R s m args below meth c H locs cells slots mc ms (F0 m pc ls st0) rest (va_Qi (fun (r1 : Int32) (u : S) => r1 = r u ∧ φ u) (fun u t => Bw D (va_A wc H.size) (wc' u) t) (va_A wc H.size) a) (va_A wc H.size)) (hP : va_P D CL (w ++ tl) H) (hD : va_D A (w ++ tl)) (hS : va_S A s.heap H locs) (hA : ∀ q, s.heap.size ≤ q → A q) (isC isR perm : List Nat) (hC : isC.map (fun i => w[i]?) = wc.map some) (hnC : va_nd isC = true) (hR : isR.map (fun i => w[i]?) = wr.map some) (hn : va_nd isR = true) (hdis : ∀ i ∈ isR, i ∉ isC) (hnp : va_nd perm = true) (hw : ∀ u, perm.map (fun i => (wr ++ wc' u)[i]?) = (w' u).map some)
    (kk : ∀ (u : S), φ u → ∀ (H1 : Heap) (locs1 : List Loc), va_P D CL (w' u ++ tl) H1 → va_D A (w' u ++ tl) → va_S A s.heap H1 locs1 → W p l e R s m args below meth c H1 locs1 (cells + mc) (slots + ms) Q (F0 m (pc + 3) ls (.int (r u) :: rest))) : W p l e R s m args below meth c H locs cells slots Q (F0 m pc ls st0) := by
  have hF := cut_free hD hS hA hC hnC
  refine va_calli hr hS (fun q _ h => hF q h) hF (fun r1 u t H1 locs1 ht hvm hp hB hz hk hS1 => ?_)
  obtain ⟨rfl, hφ⟩ := hp
  obtain ⟨b1, b2⟩ := cut_join hP hD hC hR hn hdis hnp (hw u) hk hF (by rw [← ht]; exact hB.1) hB.2
  exact kk u hφ H1 locs1 b1 b2 hS1
theorem run_i {r : Int32} (hr : va_Run p l e R s m args below meth c H locs cells slots mc ms (F0 m pc ls st0) rest (va_Qi (fun (r1 : Int32) (_ : Unit) => r1 = r) (fun _ t => Bw D (va_A wc H.size) wc' t) (va_A wc H.size) a) (va_A wc H.size)) (hP : va_P D CL (w ++ tl) H) (hD : va_D A (w ++ tl)) (hS : va_S A s.heap H locs) (hA : ∀ q, s.heap.size ≤ q → A q) (isC isR perm : List Nat) (hC : isC.map (fun i => w[i]?) = wc.map some) (hnC : va_nd isC = true) (hR : isR.map (fun i => w[i]?) = wr.map some) (hn : va_nd isR = true) (hdis : ∀ i ∈ isR, i ∉ isC) (hnp : va_nd perm = true) (hw : perm.map (fun i => (wr ++ wc')[i]?) = w'.map some)
    (kk : ∀ (H1 : Heap) (locs1 : List Loc), va_P D CL (w' ++ tl) H1 → va_D A (w' ++ tl) → va_S A s.heap H1 locs1 → W p l e R s m args below meth c H1 locs1 (cells + mc) (slots + ms) Q (F0 m (pc + 3) ls (.int r :: rest))) : W p l e R s m args below meth c H locs cells slots Q (F0 m pc ls st0) := by
  have hF := cut_free hD hS hA hC hnC
  refine va_calli hr hS (fun q _ h => hF q h) hF (fun r1 u t H1 locs1 ht hvm hp hB hz hk hS1 => ?_)
  subst hp
  obtain ⟨b1, b2⟩ := cut_join hP hD hC hR hn hdis hnp hw hk hF (by rw [← ht]; exact hB.1) hB.2
  exact kk H1 locs1 b1 b2 hS1
theorem run_j {r : Int64} (hr : va_Run p l e R s m args below meth c H locs cells slots mc ms (F0 m pc ls st0) rest (va_Ql (fun (r1 : Int64) (_ : Unit) => r1 = r) (fun _ t => Bw D (va_A wc H.size) wc' t) (va_A wc H.size) a) (va_A wc H.size)) (hP : va_P D CL (w ++ tl) H) (hD : va_D A (w ++ tl)) (hS : va_S A s.heap H locs) (hA : ∀ q, s.heap.size ≤ q → A q) (isC isR perm : List Nat) (hC : isC.map (fun i => w[i]?) = wc.map some) (hnC : va_nd isC = true) (hR : isR.map (fun i => w[i]?) = wr.map some) (hn : va_nd isR = true) (hdis : ∀ i ∈ isR, i ∉ isC) (hnp : va_nd perm = true) (hw : perm.map (fun i => (wr ++ wc')[i]?) = w'.map some)
    (kk : ∀ (H1 : Heap) (locs1 : List Loc), va_P D CL (w' ++ tl) H1 → va_D A (w' ++ tl) → va_S A s.heap H1 locs1 → W p l e R s m args below meth c H1 locs1 (cells + mc) (slots + ms) Q (F0 m (pc + 3) ls (.long r :: rest))) : W p l e R s m args below meth c H locs cells slots Q (F0 m pc ls st0) := by
  have hF := cut_free hD hS hA hC hnC
  refine va_calll hr hS (fun q _ h => hF q h) hF (fun r1 u t H1 locs1 ht hvm hp hB hz hk hS1 => ?_)
  subst hp
  obtain ⟨b1, b2⟩ := cut_join hP hD hC hR hn hdis hnp hw hk hF (by rw [← ht]; exact hB.1) hB.2
  exact kk H1 locs1 b1 b2 hS1
theorem run_v (hr : va_Run p l e R s m args below meth c H locs cells slots mc ms (F0 m pc ls st0) rest (va_Qv (fun (_ : Unit) => True) (fun _ t => Bw D (va_A wc H.size) wc' t) (va_A wc H.size) a) (va_A wc H.size)) (hP : va_P D CL (w ++ tl) H) (hD : va_D A (w ++ tl)) (hS : va_S A s.heap H locs) (hA : ∀ q, s.heap.size ≤ q → A q) (isC isR perm : List Nat) (hC : isC.map (fun i => w[i]?) = wc.map some) (hnC : va_nd isC = true) (hR : isR.map (fun i => w[i]?) = wr.map some) (hn : va_nd isR = true) (hdis : ∀ i ∈ isR, i ∉ isC) (hnp : va_nd perm = true) (hw : perm.map (fun i => (wr ++ wc')[i]?) = w'.map some)
    (kk : ∀ (H1 : Heap) (locs1 : List Loc), va_P D CL (w' ++ tl) H1 → va_D A (w' ++ tl) → va_S A s.heap H1 locs1 → W p l e R s m args below meth c H1 locs1 (cells + mc) (slots + ms) Q (F0 m (pc + 3) ls rest)) : W p l e R s m args below meth c H locs cells slots Q (F0 m pc ls st0) := by
  have hF := cut_free hD hS hA hC hnC
  refine va_callv hr hS (fun q _ h => hF q h) hF (fun u t H1 locs1 ht hvm hp hB hz hk hS1 => ?_)
  obtain ⟨b1, b2⟩ := cut_join hP hD hC hR hn hdis hnp hw hk hF (by rw [← ht]; exact hB.1) hB.2
  exact kk H1 locs1 b1 b2 hS1
theorem run_vS {S : Type} {φ : S → Prop} {wc' : S → va_W} {w' : S → va_W} (hr : va_Run p l e R s m args below meth c H locs cells slots mc ms (F0 m pc ls st0) rest (va_Qv (fun (u : S) => φ u) (fun u t => Bw D (va_A wc H.size) (wc' u) t) (va_A wc H.size) a) (va_A wc H.size)) (hP : va_P D CL (w ++ tl) H) (hD : va_D A (w ++ tl)) (hS : va_S A s.heap H locs) (hA : ∀ q, s.heap.size ≤ q → A q) (isC isR perm : List Nat) (hC : isC.map (fun i => w[i]?) = wc.map some) (hnC : va_nd isC = true) (hR : isR.map (fun i => w[i]?) = wr.map some) (hn : va_nd isR = true) (hdis : ∀ i ∈ isR, i ∉ isC) (hnp : va_nd perm = true) (hw : ∀ u, perm.map (fun i => (wr ++ wc' u)[i]?) = (w' u).map some)
    (kk : ∀ (u : S), φ u → ∀ (H1 : Heap) (locs1 : List Loc), va_P D CL (w' u ++ tl) H1 → va_D A (w' u ++ tl) → va_S A s.heap H1 locs1 → W p l e R s m args below meth c H1 locs1 (cells + mc) (slots + ms) Q (F0 m (pc + 3) ls rest)) : W p l e R s m args below meth c H locs cells slots Q (F0 m pc ls st0) := by
  have hF := cut_free hD hS hA hC hnC
  refine va_callv hr hS (fun q _ h => hF q h) hF (fun u t H1 locs1 ht hvm hp hB hz hk hS1 => ?_)
  obtain ⟨b1, b2⟩ := cut_join hP hD hC hR hn hdis hnp (hw u) hk hF (by rw [← ht]; exact hB.1) hB.2
  exact kk u hp H1 locs1 b1 b2 hS1
theorem run_rS {S : Type} {r : S → Nat} {φ : S → Prop} {wc' : S → va_W} {w' : S → va_W} (hr : va_Run p l e R s m args below meth c H locs cells slots mc ms (F0 m pc ls st0) rest (va_Qr (fun (u : S) => φ u) (fun u a t => a = r u ∧ Bw D (va_A wc H.size) (wc' u) t) (va_A wc H.size) a) (va_A wc H.size)) (hP : va_P D CL (w ++ tl) H) (hD : va_D A (w ++ tl)) (hS : va_S A s.heap H locs) (hA : ∀ q, s.heap.size ≤ q → A q) (isC isR perm : List Nat) (hC : isC.map (fun i => w[i]?) = wc.map some) (hnC : va_nd isC = true) (hR : isR.map (fun i => w[i]?) = wr.map some) (hn : va_nd isR = true) (hdis : ∀ i ∈ isR, i ∉ isC) (hnp : va_nd perm = true) (hw : ∀ u, perm.map (fun i => (wr ++ wc' u)[i]?) = (w' u).map some)
    (kk : ∀ (u : S), φ u → ∀ (H1 : Heap) (locs1 : List Loc), va_P D CL (w' u ++ tl) H1 → va_D A (w' u ++ tl) → va_S A s.heap H1 locs1 → W p l e R s m args below meth c H1 locs1 (cells + mc) (slots + ms) Q (F0 m (pc + 3) ls (.ref (r u) :: rest))) : W p l e R s m args below meth c H locs cells slots Q (F0 m pc ls st0) := by
  have hF := cut_free hD hS hA hC hnC
  refine va_callr hr hS (fun q _ h => hF q h) hF (fun u a1 t H1 locs1 ht hvm hp hB hz hk hS1 => ?_)
  obtain ⟨rfl, hB⟩ := hB
  obtain ⟨b1, b2⟩ := cut_join hP hD hC hR hn hdis hnp (hw u) hk hF (by rw [← ht]; exact hB.1) hB.2
  exact kk u hp H1 locs1 b1 b2 hS1
end RUN
