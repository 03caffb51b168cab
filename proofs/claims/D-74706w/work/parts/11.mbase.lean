/-! the bundle of AntennaTunerModel: ints, longs, arrays, by the field's number -/
set_option maxRecDepth 100000
set_option maxHeartbeats 4000000
abbrev MS : Type := (Nat → Int32) × (Nat → Int64) × (Nat → Nat → Int32)
def mup {α : Type} (f : Nat → α) (k : Nat) (x : α) : Nat → α := fun j => cond (Nat.beq j k) x (f j)
def sI (μ : MS) (k : Nat) (x : Int32) : MS := (mup μ.1 k x, μ.2)
def sJ (μ : MS) (k : Nat) (x : Int64) : MS := (μ.1, mup μ.2.1 k x, μ.2.2)
def sF (μ : MS) (k : Nat) (f : Nat → Int32) : MS := (μ.1, μ.2.1, mup μ.2.2 k f)
abbrev MO (a : Nat → Nat) (μ : MS) : List Value := [.ref (a 0), .ref (a 1), .int (μ.1 2), .int (μ.1 3), .int (μ.1 4), .int (μ.1 5), .int (μ.1 6), .int (μ.1 7), .int (μ.1 8), .int (μ.1 9), .int (μ.1 10), .ref (a 11), .ref (a 12), .ref (a 13), .int (μ.1 14), .ref (a 15), .ref (a 16), .ref (a 17), .int (μ.1 18), .int (μ.1 19), .int (μ.1 20), .int (μ.1 21), .int (μ.1 22), .int (μ.1 23), .int (μ.1 24), .int (μ.1 25), .ref (a 26), .int (μ.1 27), .ref (a 28), .ref (a 29), .ref (a 30), .int (μ.1 31), .ref (a 32), .ref (a 33), .long (μ.2.1 34), .long (μ.2.1 35), .long (μ.2.1 36), .long (μ.2.1 37), .long (μ.2.1 38), .int (μ.1 39), .int (μ.1 40), .int (μ.1 41), .int (μ.1 42), .int (μ.1 43), .int (μ.1 44), .ref (a 45), .ref (a 46)]
abbrev MP (d : Nat → ClassId) (o : Nat) (a : Nat → Nat) (μ : MS) : va_W := [(o, .inr (0, MO a μ)), (a 0, .inl (d 0, 254, .inl (μ.2.2 0))), (a 1, .inl (d 0, 3048, .inl (μ.2.2 1))), (a 11, .inl (d 0, 16, .inl (μ.2.2 11))), (a 12, .inl (d 0, 16, .inl (μ.2.2 12))), (a 13, .inl (d 0, 16, .inl (μ.2.2 13))), (a 15, .inl (d 0, 8, .inl (μ.2.2 15))), (a 16, .inl (d 0, 8, .inl (μ.2.2 16))), (a 17, .inl (d 0, 500, .inl (μ.2.2 17))), (a 26, .inl (d 0, 6, .inl (μ.2.2 26))), (a 28, .inl (d 0, 16, .inl (μ.2.2 28))), (a 29, .inl (d 0, 16, .inl (μ.2.2 29))), (a 30, .inl (d 0, 16, .inl (μ.2.2 30))), (a 32, .inl (d 0, 8, .inl (μ.2.2 32))), (a 33, .inl (d 0, 8, .inl (μ.2.2 33))), (a 45, .inl (d 0, 3, .inl (μ.2.2 45))), (a 46, .inl (d 0, 3, .inl (μ.2.2 46)))]
section MB
variable {p : Program} {l : Launch} {e : Env} {R : Room} {s : State} {m : MethodId} {args : Array Value} {below : List Frame} {meth : Method} {c : Code} {H : Heap} {locs : List Loc} {cells slots : Nat} {Q : State → Prop}
variable {pc : Nat} {ls : Array Slot} {rest : List Value} {A : Nat → Prop} {cc : ByteArray} {nL index : Nat} {D : va_G} {d : Nat → ClassId} {z : ZT} {o : Nat} {a : Nat → Nat} {μ : MS}
theorem m_get (S : CallFix p m c cc nL s args lw_all RX4) (hK : KK D d s) (hP : va_P D CL (MP d o a μ) H) (k : Nat) (hk : k < 47) (hlink : Cond.fieldLink RX4 index RX4 (TX4 k).2.1 (TX4 k).2.2.1 ∈ lw_all) {v : Value} (hv : (MO a μ)[k]? = some v) (hdg : decode cc pc = .ok (.getfield index, 3))
    (kk : W p l e R s m args below meth c H locs cells slots Q (F0 m (pc + 3) ls (v :: rest))) : W p l e R s m args below meth c H locs cells slots Q (F0 m pc ls (.ref o :: rest)) := by
  have hcls : (TX4 k).1 = RX4 := by
    unfold TX4
    split <;> rfl
  exact g_get S.1 S.2.1 S.2.2.2.2 S.2.2.2.1 hK hP in_X4 0 rfl rfl k hk hlink (fun _ h => by rw [hcls] at h; exact h) hv hdg kk
theorem m_putI (S : CallFix p m c cc nL s args lw_all RX4) (hK : KK D d s) (hP : va_P D CL (MP d o a μ) H) (hD : va_D A (MP d o a μ)) (hS : va_S A s.heap H locs) (k : Nat) (hk : k < 47) (hlink : Cond.fieldLink RX4 index RX4 (TX4 k).2.1 (TX4 k).2.2.1 ∈ lw_all) {x : Int32} {ty : FieldType} (hty : tyX4 k = ty) (hn : narrow ty (.int x) = .int x) (hfit : fits ty (.int x) = true) (hfin : (TX4 k).2.2.2 = false) (hset : (MP d o a μ).set 0 (o, .inr (0, (MO a μ).set k (.int x))) = MP d o a (sI μ k x)) (hdg : decode cc pc = .ok (.putfield index, 3))
    (kk : ∀ μ1 : MS, μ1 = sI μ k x → ∀ (H1 : Heap) (locs1 : List Loc), va_P D CL (MP d o a μ1) H1 → va_D A (MP d o a μ1) → va_S A s.heap H1 locs1 → W p l e R s m args below meth c H1 locs1 cells slots Q (F0 m (pc + 3) ls rest)) : W p l e R s m args below meth c H locs cells slots Q (F0 m pc ls (.int x :: .ref o :: rest)) := by
  have hcls : (TX4 k).1 = RX4 := by
    unfold TX4
    split <;> rfl
  exact g_put S.1 S.2.1 S.2.2.2.2 S.2.2.2.1 hK hP hD hS in_X4 tyX4 tyX4_ok nmX4 0 rfl rfl k hk hlink (fun _ h => by rw [hcls] at h; exact h) hfin hty hn hfit hk hset hdg (kk _ rfl)
theorem m_putJ (S : CallFix p m c cc nL s args lw_all RX4) (hK : KK D d s) (hP : va_P D CL (MP d o a μ) H) (hD : va_D A (MP d o a μ)) (hS : va_S A s.heap H locs) (k : Nat) (hk : k < 47) (hlink : Cond.fieldLink RX4 index RX4 (TX4 k).2.1 (TX4 k).2.2.1 ∈ lw_all) {x : Int64} (hty : tyX4 k = .long) (hfin : (TX4 k).2.2.2 = false) (hset : (MP d o a μ).set 0 (o, .inr (0, (MO a μ).set k (.long x))) = MP d o a (sJ μ k x)) (hdg : decode cc pc = .ok (.putfield index, 3))
    (kk : ∀ μ1 : MS, μ1 = sJ μ k x → ∀ (H1 : Heap) (locs1 : List Loc), va_P D CL (MP d o a μ1) H1 → va_D A (MP d o a μ1) → va_S A s.heap H1 locs1 → W p l e R s m args below meth c H1 locs1 cells slots Q (F0 m (pc + 3) ls rest)) : W p l e R s m args below meth c H locs cells slots Q (F0 m pc ls (.long x :: .ref o :: rest)) := by
  have hcls : (TX4 k).1 = RX4 := by
    unfold TX4
    split <;> rfl
  exact g_put S.1 S.2.1 S.2.2.2.2 S.2.2.2.1 hK hP hD hS in_X4 tyX4 tyX4_ok nmX4 0 rfl rfl k hk hlink (fun _ h => by rw [hcls] at h; exact h) hfin hty rfl rfl hk hset hdg (kk _ rfl)
theorem m_ild (S : CallFix p m c cc nL s args lw_all RX4) (hK : KK D d s) (hP : va_P D CL (MP d o a μ) H) (k q0 : Nat) {n : Nat} (ha : (MP d o a μ)[q0]? = some (a k, .inl (d 0, n, .inl (μ.2.2 k)))) {i : Int32} (hin : ix i n) (hdg : decode cc pc = .ok (.iaload, 1))
    (kk : W p l e R s m args below meth c H locs cells slots Q (F0 m (pc + 1) ls (.int (μ.2.2 k i.toNatClampNeg) :: rest))) : W p l e R s m args below meth c H locs cells slots Q (F0 m pc ls (.int i :: .ref (a k) :: rest)) :=
  g_iald S.1 S.2.1 hK hP q0 ha (ix_in hin) hdg kk
theorem m_ist (S : CallFix p m c cc nL s args lw_all RX4) (hK : KK D d s) (hP : va_P D CL (MP d o a μ) H) (hD : va_D A (MP d o a μ)) (hS : va_S A s.heap H locs) (k q0 : Nat) {n : Nat} (ha : (MP d o a μ)[q0]? = some (a k, .inl (d 0, n, .inl (μ.2.2 k)))) {i x : Int32} (hin : ix i n) (hset : (MP d o a μ).set q0 (a k, .inl (d 0, n, .inl (upd (μ.2.2 k) i.toNatClampNeg x))) = MP d o a (sF μ k (upd (μ.2.2 k) i.toNatClampNeg x))) (hdg : decode cc pc = .ok (.iastore, 1))
    (kk : ∀ μ1 : MS, μ1 = sF μ k (upd (μ.2.2 k) i.toNatClampNeg x) → ∀ (H1 : Heap) (locs1 : List Loc), va_P D CL (MP d o a μ1) H1 → va_D A (MP d o a μ1) → va_S A s.heap H1 locs1 → W p l e R s m args below meth c H1 locs1 cells slots Q (F0 m (pc + 1) ls rest)) : W p l e R s m args below meth c H locs cells slots Q (F0 m pc ls (.int x :: .int i :: .ref (a k) :: rest)) :=
  g_iast S.1 S.2.1 hK hP hD hS q0 ha (ix_in hin) hset hdg (kk _ rfl)

theorem mI_of {l : Launch} {y : MethodName} {av : List Value} {fr lo : Nat} {μ' : MS} {r : Int32} (hc : y.cls = RX4) (hy : plainName y.cls = true) (hav : (lg_sl av).length ≤ nL) (body : ∀ (p : Program) (e : Env) (s : State) (m : MethodId) (args : Array Value) (below : List Frame) (meth : Method) (c : Code) (A : Nat → Prop) (Q : State → Prop) (ls : Array Slot), CallFix p m c cc nL s args lw_all RX4 → KK D d s → va_P D CL (MP d o a μ) s.heap → va_D A (MP d o a μ) → ZZ z A s s.heap → va_S A s.heap s.heap [] → (∀ q, s.heap.size ≤ q → A q) → lv_has ls nL (lv_args 0 av) →
      (∀ (x : Int32) (μx : MS) (H : Heap) (locs : List Loc) (pc : Nat) (ls' : Array Slot), some (x, μx) = some (r, μ') → decode cc pc = .ok (.ireturn, 1) → va_P D CL (MP d o a μx) H → va_D A (MP d o a μx) → va_S A s.heap H locs → W p l e (rmc fr 0 0 lo) s m args below meth c H locs 0 0 Q (F0 m pc ls' [.int x])) →
      W p l e (rmc fr 0 0 lo) s m args below meth c s.heap [] 0 0 Q (F0 m 0 ls [])) : CI l y (ws_ y cc nL (some .int)) (rmc fr 0 0 lo) D d z av (MP d o a μ) r (MP d o a μ') := by
  refine CI.of hy hav rfl (fun p e s m args below meth c A Q ls S hK hP hD hZ hS hA hl hret => ?_)
  rw [hc] at S
  exact body p e s m args below meth c A Q ls S hK hP hD hZ hS hA hl (fun x μx H locs pc ls' hf hdg hP hD hS => by
    obtain ⟨rfl, rfl⟩ := so_2 hf
    exact hret H locs pc ls' hdg hP hD hS)
theorem mZ_of {l : Launch} {y : MethodName} {av : List Value} {fr lo : Nat} {μ' : MS} {r : Bool} (hc : y.cls = RX4) (hy : plainName y.cls = true) (hav : (lg_sl av).length ≤ nL) (body : ∀ (p : Program) (e : Env) (s : State) (m : MethodId) (args : Array Value) (below : List Frame) (meth : Method) (c : Code) (A : Nat → Prop) (Q : State → Prop) (ls : Array Slot), CallFix p m c cc nL s args lw_all RX4 → KK D d s → va_P D CL (MP d o a μ) s.heap → va_D A (MP d o a μ) → ZZ z A s s.heap → va_S A s.heap s.heap [] → (∀ q, s.heap.size ≤ q → A q) → lv_has ls nL (lv_args 0 av) →
      (∀ (x : Bool) (μx : MS) (H : Heap) (locs : List Loc) (pc : Nat) (ls' : Array Slot), some (x, μx) = some (r, μ') → decode cc pc = .ok (.ireturn, 1) → va_P D CL (MP d o a μx) H → va_D A (MP d o a μx) → va_S A s.heap H locs → W p l e (rmc fr 0 0 lo) s m args below meth c H locs 0 0 Q (F0 m pc ls' [.int (bi x)])) →
      W p l e (rmc fr 0 0 lo) s m args below meth c s.heap [] 0 0 Q (F0 m 0 ls [])) : CI l y (ws_ y cc nL (some .boolean)) (rmc fr 0 0 lo) D d z av (MP d o a μ) (bi r) (MP d o a μ') := by
  refine CI.of hy hav (bi_nar r) (fun p e s m args below meth c A Q ls S hK hP hD hZ hS hA hl hret => ?_)
  rw [hc] at S
  exact body p e s m args below meth c A Q ls S hK hP hD hZ hS hA hl (fun x μx H locs pc ls' hf hdg hP hD hS => by
    obtain ⟨rfl, rfl⟩ := so_2 hf
    exact hret H locs pc ls' hdg hP hD hS)
theorem mJ_of {l : Launch} {y : MethodName} {av : List Value} {fr lo : Nat} {μ' : MS} {r : Int64} (hc : y.cls = RX4) (hy : plainName y.cls = true) (hav : (lg_sl av).length ≤ nL) (body : ∀ (p : Program) (e : Env) (s : State) (m : MethodId) (args : Array Value) (below : List Frame) (meth : Method) (c : Code) (A : Nat → Prop) (Q : State → Prop) (ls : Array Slot), CallFix p m c cc nL s args lw_all RX4 → KK D d s → va_P D CL (MP d o a μ) s.heap → va_D A (MP d o a μ) → ZZ z A s s.heap → va_S A s.heap s.heap [] → (∀ q, s.heap.size ≤ q → A q) → lv_has ls nL (lv_args 0 av) →
      (∀ (x : Int64) (μx : MS) (H : Heap) (locs : List Loc) (pc : Nat) (ls' : Array Slot), some (x, μx) = some (r, μ') → decode cc pc = .ok (.lreturn, 1) → va_P D CL (MP d o a μx) H → va_D A (MP d o a μx) → va_S A s.heap H locs → W p l e (rmc fr 0 0 lo) s m args below meth c H locs 0 0 Q (F0 m pc ls' [.long x])) →
      W p l e (rmc fr 0 0 lo) s m args below meth c s.heap [] 0 0 Q (F0 m 0 ls [])) : CJ l y (ws_ y cc nL (some .long)) (rmc fr 0 0 lo) D d z av (MP d o a μ) r (MP d o a μ') := by
  refine CJ.of hy hav (fun p e s m args below meth c A Q ls S hK hP hD hZ hS hA hl hret => ?_)
  rw [hc] at S
  exact body p e s m args below meth c A Q ls S hK hP hD hZ hS hA hl (fun x μx H locs pc ls' hf hdg hP hD hS => by
    obtain ⟨rfl, rfl⟩ := so_2 hf
    exact hret H locs pc ls' hdg hP hD hS)
theorem mV_of {l : Launch} {y : MethodName} {av : List Value} {fr lo : Nat} {μ' : MS} (hc : y.cls = RX4) (hy : plainName y.cls = true) (hav : (lg_sl av).length ≤ nL) (body : ∀ (p : Program) (e : Env) (s : State) (m : MethodId) (args : Array Value) (below : List Frame) (meth : Method) (c : Code) (A : Nat → Prop) (Q : State → Prop) (ls : Array Slot), CallFix p m c cc nL s args lw_all RX4 → KK D d s → va_P D CL (MP d o a μ) s.heap → va_D A (MP d o a μ) → ZZ z A s s.heap → va_S A s.heap s.heap [] → (∀ q, s.heap.size ≤ q → A q) → lv_has ls nL (lv_args 0 av) →
      (∀ (μx : MS) (H : Heap) (locs : List Loc) (pc : Nat) (ls' : Array Slot), some μx = some μ' → decode cc pc = .ok (.return_, 1) → va_P D CL (MP d o a μx) H → va_D A (MP d o a μx) → va_S A s.heap H locs → W p l e (rmc fr 0 0 lo) s m args below meth c H locs 0 0 Q (F0 m pc ls' [])) →
      W p l e (rmc fr 0 0 lo) s m args below meth c s.heap [] 0 0 Q (F0 m 0 ls [])) : CV l y (ws_ y cc nL none) (rmc fr 0 0 lo) D d z av (MP d o a μ) (MP d o a μ') := by
  refine CV.of hy hav (fun p e s m args below meth c A Q ls S _ hK hP hD hZ hS hA hl hret => ?_)
  rw [hc] at S
  exact body p e s m args below meth c A Q ls S hK hP hD hZ hS hA hl (fun μx H locs pc ls' hf hdg hP hD hS => by
    obtain rfl := so_1 hf
    exact hret H locs pc ls' hdg hP hD hS)
theorem sI_of {l : Launch} {y : MethodName} {av : List Value} {fr lo : Nat} {r : Int32} {own : String} (hc : y.cls = own) (hy : plainName y.cls = true) (hav : (lg_sl av).length ≤ nL)
    (body : ∀ (p : Program) (e : Env) (s : State) (m : MethodId) (args : Array Value) (below : List Frame) (meth : Method) (c : Code) (Q : State → Prop) (ls : Array Slot), CallFix p m c cc nL s args lw_all own → lv_has ls nL (lv_args 0 av) →
      (∀ (x : Int32) (pc : Nat) (ls' : Array Slot), some x = some r → decode cc pc = .ok (.ireturn, 1) → W p l e (rmc fr 0 0 lo) s m args below meth c s.heap [] 0 0 Q (F0 m pc ls' [.int x])) →
      W p l e (rmc fr 0 0 lo) s m args below meth c s.heap [] 0 0 Q (F0 m 0 ls [])) : SI l y (ws_ y cc nL (some .int)) fr lo av r := by
  subst hc
  refine SI.of hy hav rfl (fun p e s m args below meth c Q ls S hl hret => ?_)
  exact body p e s m args below meth c Q ls S hl (fun x pc ls' hf hdg => by
    obtain rfl := so_1 hf
    exact hret pc ls' hdg)
theorem sZ_of {l : Launch} {y : MethodName} {av : List Value} {fr lo : Nat} {r : Bool} {own : String} (hc : y.cls = own) (hy : plainName y.cls = true) (hav : (lg_sl av).length ≤ nL)
    (body : ∀ (p : Program) (e : Env) (s : State) (m : MethodId) (args : Array Value) (below : List Frame) (meth : Method) (c : Code) (Q : State → Prop) (ls : Array Slot), CallFix p m c cc nL s args lw_all own → lv_has ls nL (lv_args 0 av) →
      (∀ (x : Bool) (pc : Nat) (ls' : Array Slot), some x = some r → decode cc pc = .ok (.ireturn, 1) → W p l e (rmc fr 0 0 lo) s m args below meth c s.heap [] 0 0 Q (F0 m pc ls' [.int (bi x)])) →
      W p l e (rmc fr 0 0 lo) s m args below meth c s.heap [] 0 0 Q (F0 m 0 ls [])) : SI l y (ws_ y cc nL (some .boolean)) fr lo av (bi r) := by
  subst hc
  refine SI.of hy hav (bi_nar r) (fun p e s m args below meth c Q ls S hl hret => ?_)
  exact body p e s m args below meth c Q ls S hl (fun x pc ls' hf hdg => by
    obtain rfl := so_1 hf
    exact hret pc ls' hdg)
theorem sJ_of {l : Launch} {y : MethodName} {av : List Value} {fr lo : Nat} {r : Int64} {own : String} (hc : y.cls = own) (hy : plainName y.cls = true) (hav : (lg_sl av).length ≤ nL)
    (body : ∀ (p : Program) (e : Env) (s : State) (m : MethodId) (args : Array Value) (below : List Frame) (meth : Method) (c : Code) (Q : State → Prop) (ls : Array Slot), CallFix p m c cc nL s args lw_all own → lv_has ls nL (lv_args 0 av) →
      (∀ (x : Int64) (pc : Nat) (ls' : Array Slot), some x = some r → decode cc pc = .ok (.lreturn, 1) → W p l e (rmc fr 0 0 lo) s m args below meth c s.heap [] 0 0 Q (F0 m pc ls' [.long x])) →
      W p l e (rmc fr 0 0 lo) s m args below meth c s.heap [] 0 0 Q (F0 m 0 ls [])) : SJ l y (ws_ y cc nL (some .long)) fr lo av r := by
  subst hc
  refine SJ.of hy hav (fun p e s m args below meth c Q ls S hl hret => ?_)
  exact body p e s m args below meth c Q ls S hl (fun x pc ls' hf hdg => by
    obtain rfl := so_1 hf
    exact hret pc ls' hdg)
end MB
section LC
variable {p : Program} {l : Launch} {e : Env} {R : Room} {s : State} {m : MethodId} {args : Array Value} {below : List Frame} {meth : Method} {c : Code} {H : Heap} {locs : List Loc} {cells slots : Nat} {Q : State → Prop} {cc : ByteArray} {pc : Nat} {ls : Array Slot} {rest : List Value}
theorem lgc (x y : Int64) : (x < y ∧ lg_cmp x y = -1) ∨ (x = y ∧ lg_cmp x y = 0) ∨ (y < x ∧ lg_cmp x y = 1) := by
  unfold lg_cmp
  simp only [gt_iff_lt, Int64.lt_iff_toInt_lt, ← Int64.toInt_inj]
  by_cases h1 : y.toInt < x.toInt
  · simp [h1]
  · by_cases h2 : x.toInt = y.toInt
    · simp [h2]
    · rw [if_neg h1, if_neg h2]
      exact Or.inl ⟨by omega, rfl⟩
theorem lc_eq {x y : Int64} : (lg_cmp x y = 0) ↔ (x = y) := by
  rcases lgc x y with ⟨h, h2⟩ | ⟨h, h2⟩ | ⟨h, h2⟩ <;> rw [h2] <;> simp only [Int64.lt_iff_toInt_lt, Int64.le_iff_toInt_le, ← Int64.toInt_inj] at h ⊢
  · exact ⟨fun q => by first | omega | exact absurd q (by decide), fun q => by first | decide | omega⟩
  · exact ⟨fun q => by first | omega | exact absurd q (by decide), fun q => by first | decide | omega⟩
  · exact ⟨fun q => by first | omega | exact absurd q (by decide), fun q => by first | decide | omega⟩
theorem g_lcmp_eq (hx : p.tables.exec = Jvm.exec) (hb : c.code = cc) {x y : Int64} {off : Int} {tgt : Nat} (hd0 : decode cc pc = .ok (.lcmp, 1)) (hdg : decode cc (pc + 1) = .ok (.ifCond .eq off, 3)) (ht : ((pc + 1 : Nat) : Int) + off = (tgt : Int))
    (kt : x = y → W p l e R s m args below meth c H locs cells slots Q (F0 m tgt ls rest)) (kf : ¬ (x = y) → W p l e R s m args below meth c H locs cells slots Q (F0 m (pc + 1 + 3) ls rest)) : W p l e R s m args below meth c H locs cells slots Q (F0 m pc ls (.long y :: .long x :: rest)) :=
  W.lcmp hx hb hd0 (lv_if_eq hx hb hdg ht (fun h => kt (lc_eq.mp h)) (fun h => kf (fun q => h (lc_eq.mpr q))))
theorem lc_ne {x y : Int64} : (¬ lg_cmp x y = 0) ↔ (¬ x = y) := by
  rcases lgc x y with ⟨h, h2⟩ | ⟨h, h2⟩ | ⟨h, h2⟩ <;> rw [h2] <;> simp only [Int64.lt_iff_toInt_lt, Int64.le_iff_toInt_le, ← Int64.toInt_inj] at h ⊢
  · exact ⟨fun q => by first | omega | exact absurd q (by decide), fun q => by first | decide | omega⟩
  · exact ⟨fun q => by first | omega | exact absurd q (by decide), fun q => by first | decide | omega⟩
  · exact ⟨fun q => by first | omega | exact absurd q (by decide), fun q => by first | decide | omega⟩
theorem g_lcmp_ne (hx : p.tables.exec = Jvm.exec) (hb : c.code = cc) {x y : Int64} {off : Int} {tgt : Nat} (hd0 : decode cc pc = .ok (.lcmp, 1)) (hdg : decode cc (pc + 1) = .ok (.ifCond .ne off, 3)) (ht : ((pc + 1 : Nat) : Int) + off = (tgt : Int))
    (kt : ¬ x = y → W p l e R s m args below meth c H locs cells slots Q (F0 m tgt ls rest)) (kf : x = y → W p l e R s m args below meth c H locs cells slots Q (F0 m (pc + 1 + 3) ls rest)) : W p l e R s m args below meth c H locs cells slots Q (F0 m pc ls (.long y :: .long x :: rest)) :=
  W.lcmp hx hb hd0 (lv_if_ne hx hb hdg ht (fun h => kt (lc_ne.mp h)) (fun h => kf (Classical.byContradiction fun q => lc_ne.mpr q h)))
theorem lc_lt {x y : Int64} : (lg_cmp x y < 0) ↔ (x < y) := by
  rcases lgc x y with ⟨h, h2⟩ | ⟨h, h2⟩ | ⟨h, h2⟩ <;> rw [h2] <;> simp only [Int64.lt_iff_toInt_lt, Int64.le_iff_toInt_le, ← Int64.toInt_inj] at h ⊢
  · exact ⟨fun q => by first | omega | exact absurd q (by decide), fun q => by first | decide | omega⟩
  · exact ⟨fun q => by first | omega | exact absurd q (by decide), fun q => by first | decide | omega⟩
  · exact ⟨fun q => by first | omega | exact absurd q (by decide), fun q => by first | decide | omega⟩
theorem g_lcmp_lt (hx : p.tables.exec = Jvm.exec) (hb : c.code = cc) {x y : Int64} {off : Int} {tgt : Nat} (hd0 : decode cc pc = .ok (.lcmp, 1)) (hdg : decode cc (pc + 1) = .ok (.ifCond .lt off, 3)) (ht : ((pc + 1 : Nat) : Int) + off = (tgt : Int))
    (kt : x < y → W p l e R s m args below meth c H locs cells slots Q (F0 m tgt ls rest)) (kf : ¬ (x < y) → W p l e R s m args below meth c H locs cells slots Q (F0 m (pc + 1 + 3) ls rest)) : W p l e R s m args below meth c H locs cells slots Q (F0 m pc ls (.long y :: .long x :: rest)) :=
  W.lcmp hx hb hd0 (lv_if_lt hx hb hdg ht (fun h => kt (lc_lt.mp h)) (fun h => kf (fun q => h (lc_lt.mpr q))))
theorem lc_ge {x y : Int64} : (0 ≤ lg_cmp x y) ↔ (y ≤ x) := by
  rcases lgc x y with ⟨h, h2⟩ | ⟨h, h2⟩ | ⟨h, h2⟩ <;> rw [h2] <;> simp only [Int64.lt_iff_toInt_lt, Int64.le_iff_toInt_le, ← Int64.toInt_inj] at h ⊢
  · exact ⟨fun q => by first | omega | exact absurd q (by decide), fun q => by first | decide | omega⟩
  · exact ⟨fun q => by first | omega | exact absurd q (by decide), fun q => by first | decide | omega⟩
  · exact ⟨fun q => by first | omega | exact absurd q (by decide), fun q => by first | decide | omega⟩
theorem g_lcmp_ge (hx : p.tables.exec = Jvm.exec) (hb : c.code = cc) {x y : Int64} {off : Int} {tgt : Nat} (hd0 : decode cc pc = .ok (.lcmp, 1)) (hdg : decode cc (pc + 1) = .ok (.ifCond .ge off, 3)) (ht : ((pc + 1 : Nat) : Int) + off = (tgt : Int))
    (kt : y ≤ x → W p l e R s m args below meth c H locs cells slots Q (F0 m tgt ls rest)) (kf : ¬ (y ≤ x) → W p l e R s m args below meth c H locs cells slots Q (F0 m (pc + 1 + 3) ls rest)) : W p l e R s m args below meth c H locs cells slots Q (F0 m pc ls (.long y :: .long x :: rest)) :=
  W.lcmp hx hb hd0 (lv_if_ge hx hb hdg ht (fun h => kt (lc_ge.mp h)) (fun h => kf (fun q => h (lc_ge.mpr q))))
theorem lc_gt {x y : Int64} : (0 < lg_cmp x y) ↔ (y < x) := by
  rcases lgc x y with ⟨h, h2⟩ | ⟨h, h2⟩ | ⟨h, h2⟩ <;> rw [h2] <;> simp only [Int64.lt_iff_toInt_lt, Int64.le_iff_toInt_le, ← Int64.toInt_inj] at h ⊢
  · exact ⟨fun q => by first | omega | exact absurd q (by decide), fun q => by first | decide | omega⟩
  · exact ⟨fun q => by first | omega | exact absurd q (by decide), fun q => by first | decide | omega⟩
  · exact ⟨fun q => by first | omega | exact absurd q (by decide), fun q => by first | decide | omega⟩
theorem g_lcmp_gt (hx : p.tables.exec = Jvm.exec) (hb : c.code = cc) {x y : Int64} {off : Int} {tgt : Nat} (hd0 : decode cc pc = .ok (.lcmp, 1)) (hdg : decode cc (pc + 1) = .ok (.ifCond .gt off, 3)) (ht : ((pc + 1 : Nat) : Int) + off = (tgt : Int))
    (kt : y < x → W p l e R s m args below meth c H locs cells slots Q (F0 m tgt ls rest)) (kf : ¬ (y < x) → W p l e R s m args below meth c H locs cells slots Q (F0 m (pc + 1 + 3) ls rest)) : W p l e R s m args below meth c H locs cells slots Q (F0 m pc ls (.long y :: .long x :: rest)) :=
  W.lcmp hx hb hd0 (lv_if_gt hx hb hdg ht (fun h => kt (lc_gt.mp h)) (fun h => kf (fun q => h (lc_gt.mpr q))))
theorem lc_le {x y : Int64} : (lg_cmp x y ≤ 0) ↔ (x ≤ y) := by
  rcases lgc x y with ⟨h, h2⟩ | ⟨h, h2⟩ | ⟨h, h2⟩ <;> rw [h2] <;> simp only [Int64.lt_iff_toInt_lt, Int64.le_iff_toInt_le, ← Int64.toInt_inj] at h ⊢
  · exact ⟨fun q => by first | omega | exact absurd q (by decide), fun q => by first | decide | omega⟩
  · exact ⟨fun q => by first | omega | exact absurd q (by decide), fun q => by first | decide | omega⟩
  · exact ⟨fun q => by first | omega | exact absurd q (by decide), fun q => by first | decide | omega⟩
theorem g_lcmp_le (hx : p.tables.exec = Jvm.exec) (hb : c.code = cc) {x y : Int64} {off : Int} {tgt : Nat} (hd0 : decode cc pc = .ok (.lcmp, 1)) (hdg : decode cc (pc + 1) = .ok (.ifCond .le off, 3)) (ht : ((pc + 1 : Nat) : Int) + off = (tgt : Int))
    (kt : x ≤ y → W p l e R s m args below meth c H locs cells slots Q (F0 m tgt ls rest)) (kf : ¬ (x ≤ y) → W p l e R s m args below meth c H locs cells slots Q (F0 m (pc + 1 + 3) ls rest)) : W p l e R s m args below meth c H locs cells slots Q (F0 m pc ls (.long y :: .long x :: rest)) :=
  W.lcmp hx hb hd0 (lv_if_le hx hb hdg ht (fun h => kt (lc_le.mp h)) (fun h => kf (fun q => h (lc_le.mpr q))))
end LC
