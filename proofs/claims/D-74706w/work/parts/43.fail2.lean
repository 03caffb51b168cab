/-! link by link -/
set_option maxRecDepth 100000
set_option maxHeartbeats 4000000
/-- a chain of failures: address, class, value -/
def Chn (tl : va_W) : List (Nat × Nat × Int32) → Option Nat → Prop
  | [], h => h = none
  | x :: t, h => h = some x.1 ∧ (10 ≤ x.2.1 ∧ x.2.1 ≤ 15) ∧ ∃ nx, (x.1, (.inr (x.2.1, [.int x.2.2, va_rf nx, .null, .null, .null, .null, .int 0]) : va_E)) ∈ tl ∧ nx ≠ some x.1 ∧ Chn tl t nx
abbrev MFs (ch : List (Nat × Nat × Int32)) (H : Heap) : Prop := ∀ x ∈ ch, MF H x.1
def CIm (l : Launch) (y : MethodName) (ws : List Cond) (rm : Room) (D : va_G) (d : Nat → ClassId) (z : ZT) (av : List Value) (w : va_W) (r : Int32) (w' : va_W) (X9 : Heap → Prop) : Prop :=
  ∀ sz : Nat, Met l y ws rm (fun a U => Pw D d z av sz w a U ∧ X9 U.heap) (va_Qi (fun (r1 : Int32) (_ : Unit) => r1 = r) (fun _ t => Bw D (va_A w sz) w' t) (va_A w sz)) rm.cells rm.slots (va_A w sz)
def CQm (l : Launch) (y : MethodName) (ws : List Cond) (rm : Room) (D : va_G) (d : Nat → ClassId) (z : ZT) (av : List Value) (w : va_W) (r : Option Nat) (w' : va_W) (X9 : Heap → Prop) : Prop :=
  ∀ sz : Nat, Met l y ws rm (fun a U => Pw D d z av sz w a U ∧ X9 U.heap) (va_Qq (fun (r1 : Option Nat) (_ : Unit) => r1 = r) (fun _ t => Bw D (va_A w sz) w' t) (va_A w sz)) rm.cells rm.slots (va_A w sz)
theorem CIm.of {l : Launch} {y : MethodName} {cc : ByteArray} {nL : Nat} {rt : FieldType} {rm : Room} {D : va_G} {d : Nat → ClassId} {z : ZT} {av : List Value} {w w' : va_W} {r : Int32} {X9 : Heap → Prop} {own : String} (hc : y.cls = own) (hy : plainName y.cls = true) (hav : (lg_sl av).length ≤ nL) (hn : narrow rt (.int r) = .int r)
    (body : ∀ (p : Program) (e : Env) (s : State) (m : MethodId) (args : Array Value) (below : List Frame) (meth : Method) (c : Code) (A : Nat → Prop) (Q : State → Prop) (ls : Array Slot), CallFix p m c cc nL s args lw_all own → KK D d s → va_P D CL w s.heap → va_D A w → ZZ z A s s.heap → va_S A s.heap s.heap [] → (∀ q, s.heap.size ≤ q → A q) → lv_has ls nL (lv_args 0 av) → X9 s.heap →
      (∀ (H : Heap) (locs : List Loc) (pc : Nat) (ls' : Array Slot), decode cc pc = .ok (.ireturn, 1) → va_P D CL w' H → va_D A w' → va_S A s.heap H locs → W p l e rm s m args below meth c H locs rm.cells rm.slots Q (F0 m pc ls' [.int r])) →
      W p l e rm s m args below meth c s.heap [] 0 0 Q (F0 m 0 ls [])) : CIm l y (ws_ y cc nL (some rt)) rm D d z av w r w' X9 := by
  intro sz
  subst hc
  refine Met.ofW (cc := cc) (maxL := nL) (ret := some rt) hy rfl ?_
  intro p e s m args below meth c s₁ B hml hv
  obtain ⟨⟨rfl, hsz, hP, hK, hD0, hZ⟩, hX⟩ := hv
  have hts := atoms_spec (ws := ws_ y cc nL (some rt)) B.pre
  have hts : ∀ w ∈ lw_all, w.before _ s = true := fun w h => hts w (List.mem_cons_of_mem _ h)
  subst hsz
  have hD := hD0.self (sz := s.heap.size)
  have hl := lv_entry av (n := nL) hav
  rw [lg_entry_eq]
  exact body p e s m _ below meth c _ _ _ ⟨B.exec, B.bytes, hml, findClass_of_methodNamed B.named, hts⟩ hK hP hD hZ va_S.rf (fun q h => Or.inr h) hl hX
    (fun H locs pc ls' hdg hP hD hS => W.zret B.exec B.bytes B.returns hn (fun t ht hW => ⟨⟨r, (), rfl, rfl, by rw [ht]; exact hP, hD⟩, hS.F ht⟩) hS.2.2 hdg B.notSynchronized)
theorem CQm.of {l : Launch} {y : MethodName} {cc : ByteArray} {nL : Nat} {rt : FieldType} {rm : Room} {D : va_G} {d : Nat → ClassId} {z : ZT} {av : List Value} {w w' : va_W} {r : Option Nat} {X9 : Heap → Prop} {own : String} (hc : y.cls = own) (hy : plainName y.cls = true) (hav : (lg_sl av).length ≤ nL) (hrt : (∃ n, rt = .object n) ∨ ∃ t, rt = .array t)
    (body : ∀ (p : Program) (e : Env) (s : State) (m : MethodId) (args : Array Value) (below : List Frame) (meth : Method) (c : Code) (A : Nat → Prop) (Q : State → Prop) (ls : Array Slot), CallFix p m c cc nL s args lw_all own → KK D d s → va_P D CL w s.heap → va_D A w → ZZ z A s s.heap → va_S A s.heap s.heap [] → (∀ q, s.heap.size ≤ q → A q) → lv_has ls nL (lv_args 0 av) → X9 s.heap →
      (∀ (H : Heap) (locs : List Loc) (pc : Nat) (ls' : Array Slot), decode cc pc = .ok (.areturn, 1) → va_P D CL w' H → va_D A w' → va_S A s.heap H locs → W p l e rm s m args below meth c H locs rm.cells rm.slots Q (F0 m pc ls' [va_rf r])) →
      W p l e rm s m args below meth c s.heap [] 0 0 Q (F0 m 0 ls [])) : CQm l y (ws_ y cc nL (some rt)) rm D d z av w r w' X9 := by
  intro sz
  subst hc
  refine Met.ofW (cc := cc) (maxL := nL) (ret := some rt) hy rfl ?_
  intro p e s m args below meth c s₁ B hml hv
  obtain ⟨⟨rfl, hsz, hP, hK, hD0, hZ⟩, hX⟩ := hv
  have hts := atoms_spec (ws := ws_ y cc nL (some rt)) B.pre
  have hts : ∀ w ∈ lw_all, w.before _ s = true := fun w h => hts w (List.mem_cons_of_mem _ h)
  subst hsz
  have hD := hD0.self (sz := s.heap.size)
  have hl := lv_entry av (n := nL) hav
  rw [lg_entry_eq]
  exact body p e s m _ below meth c _ _ _ ⟨B.exec, B.bytes, hml, findClass_of_methodNamed B.named, hts⟩ hK hP hD hZ va_S.rf (fun q h => Or.inr h) hl hX
    (fun H locs pc ls' hdg hP hD hS => W.aret B.exec B.bytes B.returns hrt (va_rf_or r) (fun t ht hW => ⟨⟨r, (), rfl, rfl, by rw [ht]; exact hP, hD⟩, hS.F ht⟩) hS.2.2 hdg B.notSynchronized)
def lnk (ch : List (Nat × Nat × Int32)) (i : Int32) : Option (Nat × Nat × Int32) := if i.toInt < 0 then none else ch[i.toNatClampNeg]?
theorem Chn.head {tl : va_W} {ch : List (Nat × Nat × Int32)} {h : Option Nat} (hc : Chn tl ch h) : h = (ch[0]?).map (·.1) := by
  cases ch with
  | nil => exact hc
  | cons x t => exact hc.1
theorem Chn.mem {tl : va_W} {h : Option Nat} {ch : List (Nat × Nat × Int32)} (hc : Chn tl ch h) : ∀ x ∈ ch, (10 ≤ x.2.1 ∧ x.2.1 ≤ 15) ∧ ∃ nx, (x.1, (.inr (x.2.1, [.int x.2.2, va_rf nx, .null, .null, .null, .null, .int 0]) : va_E)) ∈ tl := by
  induction ch generalizing h with
  | nil => intro x hx; cases hx
  | cons y t ih =>
    obtain ⟨-, h2, nx, h3, -, h5⟩ := hc
    intro x hx
    rcases List.mem_cons.mp hx with rfl | hx
    · exact ⟨h2, nx, h3⟩
    · exact ih h5 x hx
set_option maxHeartbeats 4000000 in
theorem tX0_link (l : Launch) (D : va_G) (d : Nat → ClassId) (z : ZT) (b : Nat → Nat) (i : Int32) (μ : XT) (ch : List (Nat × Nat × Int32)) (hch : Chn μ.2 ch (μ.1.2.2.2.2 6 0)) : CQm l yX0_link (ws_ yX0_link cX0_link 4 (Option.some (Jvm.ClassFile.FieldType.object "AntennaTuner$TunerFailure"))) (rmc 1 0 0 20) D d z [.ref (b 0), .int i] (XW d z b μ.1 ++ μ.2) ((lnk ch i).map (·.1)) (XW d z b μ.1 ++ μ.2) (MFs ch) := by
  refine CQm.of (own := RX0) rfl (by decide) (Nat.le_of_ble_eq_true rfl) (Or.inl ⟨_, rfl⟩) ?_
  intro p e s m args below meth c A Q ls S hK hP hD hZ hS hA hl hMF hret0
  have hx := S.1
  have hb := S.2.1
  have hts := S.2.2.2.2
  have hl : lv_has ls 4 [(0, .ref (b 0)), (1, .int i)] := hl
  have L35 : ∀ (ls : Array Slot) (k : Int32) (h : Option Nat), (h = none ∨ ∃ (ci : Nat) (fs : List Value), (10 ≤ ci ∧ ci ≤ 15) ∧ ∃ q, h = some q ∧ (q, (.inr (ci, fs) : va_E)) ∈ XW d z b μ.1 ++ μ.2) → h = (lnk ch i).map (·.1) → lv_has ls 4 [(2, va_rf h), (3, .int k), (0, .ref (b 0)), (1, .int i)] → W p l e (rmc 1 0 0 20) s m args below meth c s.heap [] 0 0 Q (F0 m 35 ls []) := by
    intro ls k h hh hr hl
    rcases hh with rfl | ⟨ci, fs, hci, q, rfl, hm⟩
    · refine lv_aload_nN hx hb dX0_link_35 rfl (lv_at hl 0 rfl) ?_
      refine g_instN hx hb dX0_link_36 ?_
      refine lv_if_eq (tgt := 51) hx hb dX0_link_39 (by decide) (fun hc => ?_) (fun hc => absurd rfl hc)
      refine lv_null hx hb dX0_link_51 ?_
      have h8 := hret0 s.heap [] 52 ls dX0_link_52 hP hD hS
      rw [← hr] at h8
      exact h8
    · refine lv_aload_n hx hb dX0_link_35 rfl (lv_at hl 0 rfl) ?_
      refine g_inst S hK hP hci hm q1474 dX0_link_36 ?_
      refine lv_if_eq (tgt := 51) hx hb dX0_link_39 (by decide) (fun hc => absurd hc (by decide)) (fun hc => ?_)
      refine lv_aload_n hx hb dX0_link_42 rfl (lv_at hl 0 rfl) ?_
      refine g_castF S hK hP hci hm q1474 dX0_link_43 ?_
      refine lv_astore_n (lv' := [(3, .ref q), (2, .ref q), (0, .ref (b 0)), (1, .int i)]) hx hb dX0_link_46 rfl hl (by decide) rfl (fun ls hl => ?_)
      refine lv_aload_n hx hb dX0_link_47 rfl (lv_at hl 0 rfl) ?_
      refine lv_goto (tgt := 52) hx hb dX0_link_48 (by decide) ?_
      have h8 := hret0 s.heap [] 52 ls dX0_link_52 hP hD hS
      rw [← hr] at h8
      exact h8
  have L15 : ∀ (n : Nat) (t : List (Nat × Nat × Int32)) (h : Option Nat) (k : Int32) (ls : Array Slot), Chn μ.2 t h → (∀ x ∈ t, MF s.heap x.1) → 0 ≤ k.toInt → k.toInt + n = i.toInt → (lnk ch i).map (·.1) = (t[n]?).map (·.1) → lv_has ls 4 [(2, va_rf h), (3, .int k), (0, .ref (b 0)), (1, .int i)] → W p l e (rmc 1 0 0 20) s m args below meth c s.heap [] 0 0 Q (F0 m 15 ls []) := by
    intro n
    induction n with
    | zero =>
      intro t h k ls hc hmf hk0 hk hr hl
      have hhd := hc.head
      refine lv_iload_n hx hb dX0_link_15 rfl (lv_at hl 1 rfl) ?_
      refine lv_iload_n hx hb dX0_link_16 rfl (lv_at hl 3 rfl) ?_
      refine lv_icmp_ge (tgt := 35) hx hb dX0_link_17 (by decide) (fun _ => ?_) (fun q => absurd (Int32.le_iff_toInt_le.mpr (by omega)) q)
      refine L35 ls k h ?_ (hhd.trans hr.symm) hl
      cases t with
      | nil => exact Or.inl hc
      | cons x t => exact Or.inr ⟨x.2.1, _, hc.2.1, x.1, hc.1, List.mem_append_right _ hc.2.2.choose_spec.1⟩
    | succ n ih =>
      intro t h k ls hc hmf hk0 hk hr hl
      have hui : i.toInt ≤ 2147483647 := i.toInt_le
      refine lv_iload_n hx hb dX0_link_15 rfl (lv_at hl 1 rfl) ?_
      refine lv_iload_n hx hb dX0_link_16 rfl (lv_at hl 3 rfl) ?_
      refine lv_icmp_ge (tgt := 35) hx hb dX0_link_17 (by decide) (fun q => by have := Int32.le_iff_toInt_le.mp q; omega) (fun _ => ?_)
      cases t with
      | nil =>
        obtain rfl : h = none := hc
        refine lv_aload_nN hx hb dX0_link_20 rfl (lv_at hl 0 rfl) ?_
        refine lv_ifnullN (tgt := 35) hx hb dX0_link_21 (by decide) ?_
        exact L35 ls k none (Or.inl rfl) (by rw [hr]; rfl) hl
      | cons x t =>
        obtain ⟨rfl, hci, nx, hm, hne, hc'⟩ := hc
        refine lv_aload_n hx hb dX0_link_20 rfl (lv_at hl 0 rfl) ?_
        refine lv_ifnull hx hb dX0_link_21 ?_
        refine lv_aload_n hx hb dX0_link_24 rfl (lv_at hl 0 rfl) ?_
        refine g_gc S hK hP hci (List.mem_append_right _ hm) (hmf x List.mem_cons_self) hne hl.1 (Nat.zero_le _) (Nat.le_refl _) (Nat.le_refl _) (Nat.le_refl _) (Nat.le_refl _) dX0_link_25 ?_
        have hmf' : ∀ y ∈ t, MF s.heap y.1 := fun y hy => hmf y (List.mem_cons_of_mem _ hy)
        have e1 : (1 : Int32).toInt = 1 := rfl
        have hk1 : (k + 1).toInt = k.toInt + 1 := by
          rw [Int32.toInt_add, e1]
          exact Int.bmod_eq_of_le (by omega) (by omega)
        cases nx with
        | none =>
          refine lv_astore_nN (lv' := [(2, .null), (3, .int k), (0, .ref (b 0)), (1, .int i)]) hx hb dX0_link_28 rfl hl (by decide) rfl (fun ls hl => ?_)
          refine lv_iinc (v := k + 1) (lv' := [(3, .int (k + 1)), (2, .null), (0, .ref (b 0)), (1, .int i)]) hx hb dX0_link_29 hl (k := 1) rfl rfl (by decide) rfl (fun ls hl => ?_)
          refine lv_goto (tgt := 15) hx hb dX0_link_32 (by decide) ?_
          exact ih t none (k + 1) ls hc' hmf' (by omega) (by omega) hr (lv_sub hl [1, 0, 2, 3] rfl)
        | some q2 =>
          refine lv_astore_n (lv' := [(2, .ref q2), (3, .int k), (0, .ref (b 0)), (1, .int i)]) hx hb dX0_link_28 rfl hl (by decide) rfl (fun ls hl => ?_)
          refine lv_iinc (v := k + 1) (lv' := [(3, .int (k + 1)), (2, .ref q2), (0, .ref (b 0)), (1, .int i)]) hx hb dX0_link_29 hl (k := 1) rfl rfl (by decide) rfl (fun ls hl => ?_)
          refine lv_goto (tgt := 15) hx hb dX0_link_32 (by decide) ?_
          exact ih t (some q2) (k + 1) ls hc' hmf' (by omega) (by omega) hr (lv_sub hl [1, 0, 2, 3] rfl)
  refine lv_iload_n hx hb dX0_link_0 rfl (lv_at hl 1 rfl) ?_
  refine lv_if_ge (tgt := 8) hx hb dX0_link_1 (by decide) (fun hi => ?_) (fun hi => ?_)
  · have hi : 0 ≤ i.toInt := Int32.le_iff_toInt_le.mp hi
    have hn : (i.toNatClampNeg : Int) = i.toInt := by rw [Int32.toNatClampNeg, Int.toNat_of_nonneg hi]
    refine lv_aload_n hx hb dX0_link_8 rfl (lv_at hl 0 rfl) ?_
    refine g_get hx hb hts S.2.2.2.1 hK hP in_X0 0 rfl rfl 6 (by decide) q288 (fun _ h9 => h9) (v := va_rf (μ.1.2.2.2.2 6 0)) rfl dX0_link_9 ?_
    have hr : (lnk ch i).map (·.1) = (ch[i.toNatClampNeg]?).map (·.1) := by
      unfold lnk
      rw [if_neg (by omega)]
    generalize hh : μ.1.2.2.2.2 6 0 = h at hch
    cases h with
    | none =>
      refine lv_astore_nN (lv' := [(2, .null), (0, .ref (b 0)), (1, .int i)]) hx hb dX0_link_12 rfl hl (by decide) rfl (fun ls hl => ?_)
      refine lv_iconst (v := 0) hx hb dX0_link_13 (by decide) ?_
      refine lv_istore_n (lv' := [(3, .int (0 : Int32)), (2, .null), (0, .ref (b 0)), (1, .int i)]) hx hb dX0_link_14 rfl hl (by decide) rfl (fun ls hl => ?_)
      exact L15 i.toNatClampNeg ch none 0 ls hch hMF (by decide) (by show (0 : Int) + _ = _; omega) hr (lv_sub hl [1, 0, 2, 3] rfl)
    | some q0 =>
      refine lv_astore_n (lv' := [(2, .ref q0), (0, .ref (b 0)), (1, .int i)]) hx hb dX0_link_12 rfl hl (by decide) rfl (fun ls hl => ?_)
      refine lv_iconst (v := 0) hx hb dX0_link_13 (by decide) ?_
      refine lv_istore_n (lv' := [(3, .int (0 : Int32)), (2, .ref q0), (0, .ref (b 0)), (1, .int i)]) hx hb dX0_link_14 rfl hl (by decide) rfl (fun ls hl => ?_)
      exact L15 i.toNatClampNeg ch (some q0) 0 ls hch hMF (by decide) (by show (0 : Int) + _ = _; omega) hr (lv_sub hl [1, 0, 2, 3] rfl)
  · have hi : i.toInt < 0 := by
      have : ¬ (0 : Int32).toInt ≤ i.toInt := fun q => hi (Int32.le_iff_toInt_le.mpr q)
      have e0 : (0 : Int32).toInt = 0 := rfl
      omega
    refine lv_null hx hb dX0_link_4 ?_
    refine lv_goto (tgt := 12) hx hb dX0_link_5 (by decide) ?_
    refine lv_astore_nN (lv' := [(2, .null), (0, .ref (b 0)), (1, .int i)]) hx hb dX0_link_12 rfl hl (by decide) rfl (fun ls hl => ?_)
    refine lv_iconst (v := 0) hx hb dX0_link_13 (by decide) ?_
    refine lv_istore_n (lv' := [(3, .int (0 : Int32)), (2, .null), (0, .ref (b 0)), (1, .int i)]) hx hb dX0_link_14 rfl hl (by decide) rfl (fun ls hl => ?_)
    refine lv_iload_n hx hb dX0_link_15 rfl (lv_at hl 0 rfl) ?_
    refine lv_iload_n hx hb dX0_link_16 rfl (lv_at hl 3 rfl) ?_
    refine lv_icmp_ge (tgt := 35) hx hb dX0_link_17 (by decide) (fun _ => ?_) (fun q => absurd (Int32.le_iff_toInt_le.mpr (by show i.toInt ≤ 0; omega)) q)
    refine L35 ls 0 none (Or.inl rfl) ?_ (lv_sub hl [1, 0, 2, 3] rfl)
    unfold lnk
    rw [if_pos hi]
    rfl
