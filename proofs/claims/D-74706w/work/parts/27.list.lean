/-! ArrayList and ArrayDeque, as they are used here: no growth -/
set_option maxRecDepth 100000
abbrev ALP (d : Nat → ClassId) (o ea : Nat) (μ : Int32 × Int32 × (Nat → Option Nat)) : va_W := [(o, .inr (18, [.int μ.1, .ref ea, .int μ.2.1])), (ea, .inl (d 4, 16, .inr (.inr (.inr (.inr μ.2.2)))))]
abbrev ADP (d : Nat → ClassId) (o ea : Nat) (μ : Int32 × Int32 × (Nat → Option Nat)) : va_W := [(o, .inr (17, [.ref ea, .int μ.1, .int μ.2.1])), (ea, .inl (d 4, 17, .inr (.inr (.inr (.inr μ.2.2)))))]
def fJ15_checkIndex (K : Nat) (p0 : Int32) (p1 : Int32) : Option Int32 :=
  b1 (fJ10_checkIndex K p0 p1) fun r_1 =>
  some r_1
set_option maxHeartbeats 4000000 in
set_option maxRecDepth 100000 in
theorem tJ15_checkIndex (l : Launch) (K : Nat) (p0 : Int32) (p1 : Int32) (r : Int32) (hf : fJ15_checkIndex K p0 p1 = some r) : SI l yJ15_checkIndex (ws_ yJ15_checkIndex cJ15_checkIndex 2 (Option.some Jvm.ClassFile.FieldType.int)) 1 22 [.int p0, .int p1] r := by
  refine sI_of (own := RJ15) rfl (by decide) (Nat.le_of_ble_eq_true rfl) ?_
  intro p e s m args below meth c Q ls S hl hret
  have hx := S.1
  have hb := S.2.1
  have hts := S.2.2.2.2
  have hl : lv_has ls 2 [(0, .int p0), (1, .int p1)] := hl
  unfold fJ15_checkIndex at hf
  refine lv_iload_n hx hb dJ15_checkIndex_0 rfl (lv_at hl 0 rfl) ?_
  refine lv_iload_n hx hb dJ15_checkIndex_1 rfl (lv_at hl 1 rfl) ?_
  refine lv_null hx hb dJ15_checkIndex_2 ?_
  obtain ⟨r_1, h_2, hf⟩ := b1_some hf
  refine si_call S (tJ10_checkIndexn l K p0 p1 _ h_2) (va_cwS 3 hts (lw_S q948 q584 q112 q585) rfl rfl rfl (by decide +kernel) ⟨(Nat.le_of_ble_eq_true rfl), (Nat.le_of_ble_eq_true rfl)⟩) rfl hl.1 rfl (Nat.le_of_ble_eq_true rfl) ⟨(Nat.le_of_ble_eq_true rfl), (Nat.le_of_ble_eq_true rfl)⟩ dJ15_checkIndex_3 ?_
  clear h_2
  exact hret _ _ _ hf dJ15_checkIndex_6
def fJ14_size (K : Nat) (μ : Int32 × Int32 × (Nat → Option Nat)) : Option Int32 :=
  some μ.2.1
set_option maxHeartbeats 4000000 in
set_option maxRecDepth 100000 in
theorem tJ14_size (l : Launch) (D : va_G) (d : Nat → ClassId) (z : ZT) (o ea : Nat) (es : va_W) (K : Nat) (μ : Int32 × Int32 × (Nat → Option Nat)) (r : Int32) (hf : fJ14_size K μ = some r) : CI l yJ14_size (ws_ yJ14_size cJ14_size 1 (Option.some Jvm.ClassFile.FieldType.int)) (rmc 0 0 0 0) D d z [.ref o] (ALP d o ea μ ++ es) r (ALP d o ea μ ++ es) := by
  refine CI.of2 (own := RJ14) rfl (by decide) (Nat.le_of_ble_eq_true rfl) rfl ?_
  intro p e s m args below meth c A Q ls S hin hK hP hD hZ hS hA hl hret0
  have hret : ∀ (x : Int32) (H : Heap) (locs : List Loc) (pc : Nat) (ls' : Array Slot), some x = some r → decode cJ14_size pc = .ok (.ireturn, 1) → va_P D CL (ALP d o ea μ ++ es) H → va_D A (ALP d o ea μ ++ es) → va_S A s.heap H locs → W p l e (rmc 0 0 0 0) s m args below meth c H locs 0 0 Q (F0 m pc ls' [.int x]) := by
    intro x H locs pc ls' h9 hdg hP hD hS
    obtain rfl := so_1 h9
    exact hret0 H locs pc ls' hdg hP hD hS
  have hx := S.1
  have hb := S.2.1
  have hts := S.2.2.2.2
  have hl : lv_has ls 1 [(0, .ref o)] := hl
  unfold fJ14_size at hf
  refine lv_aload_n hx hb dJ14_size_0 rfl (lv_at hl 0 rfl) ?_
  refine g_get hx hb hts S.2.2.2.1 hK hP in_J14 0 rfl rfl 2 (by decide) q797 (fun _ h9 => h9) (v := .int μ.2.1) rfl dJ14_size_1 ?_
  refine W.widen (k := 0) (n := 0) (Nat.le_of_ble_eq_true rfl) (Nat.le_of_ble_eq_true rfl) ?_
  exact hret _ _ _ _ _ hf dJ14_size_4 hP hD hS
def fJ14_elementData (K : Nat) (p0 : Int32) (μ : Int32 × Int32 × (Nat → Option Nat)) : Option Nat :=
  ga (ix p0 16) <|
  b1 (μ.2.2 p0.toNatClampNeg) fun q_2 =>
  some q_2
set_option maxHeartbeats 4000000 in
set_option maxRecDepth 100000 in
theorem tJ14_elementData (l : Launch) (D : va_G) (d : Nat → ClassId) (z : ZT) (o ea : Nat) (es : va_W) (K : Nat) (p0 : Int32) (μ : Int32 × Int32 × (Nat → Option Nat)) (r : Nat) (hf : fJ14_elementData K p0 μ = some r) : CRS l yJ14_elementData (ws_ yJ14_elementData cJ14_elementData 2 (Option.some (Jvm.ClassFile.FieldType.object "java/lang/Object"))) (rmc 0 0 0 0) D d z [.ref o, .int p0] (ALP d o ea μ ++ es) (fun _ : Unit => r) (fun _ => ALP d o ea μ ++ es) (fun _ => True) := by
  refine CRS.of (own := RJ14) rfl (by decide) (Nat.le_of_ble_eq_true rfl) (Or.inl ⟨_, rfl⟩) ?_
  intro p e s m args below meth c A Q ls S hin hK hP hD hZ hS hA hl hret0
  have hret : ∀ (x : Nat) (H : Heap) (locs : List Loc) (pc : Nat) (ls' : Array Slot), some x = some r → decode cJ14_elementData pc = .ok (.areturn, 1) → va_P D CL (ALP d o ea μ ++ es) H → va_D A (ALP d o ea μ ++ es) → va_S A s.heap H locs → W p l e (rmc 0 0 0 0) s m args below meth c H locs 0 0 Q (F0 m pc ls' [.ref x]) := by
    intro x H locs pc ls' h9 hdg hP hD hS
    obtain rfl := so_1 h9
    exact hret0 () trivial H locs pc ls' hdg hP hD hS
  have hx := S.1
  have hb := S.2.1
  have hts := S.2.2.2.2
  have hl : lv_has ls 2 [(0, .ref o), (1, .int p0)] := hl
  unfold fJ14_elementData at hf
  refine lv_aload_n hx hb dJ14_elementData_0 rfl (lv_at hl 0 rfl) ?_
  refine g_get hx hb hts S.2.2.2.1 hK hP in_J14 0 rfl rfl 1 (by decide) q796 (fun _ h9 => h9) (v := .ref ea) rfl dJ14_elementData_1 ?_
  refine lv_iload_n hx hb dJ14_elementData_4 rfl (lv_at hl 1 rfl) ?_
  obtain ⟨g_1, hf⟩ := ga_some hf
  obtain ⟨q_2, hq_2, hf⟩ := b1_some hf
  refine g_aald hx hb hK hP 1 4 rfl rfl (ix_in g_1) dJ14_elementData_5 ?_
  rw [hq_2]
  refine W.widen (k := 0) (n := 0) (Nat.le_of_ble_eq_true rfl) (Nat.le_of_ble_eq_true rfl) ?_
  exact hret _ _ _ _ _ hf dJ14_elementData_6 hP hD hS
def fJ14_get (K : Nat) (p0 : Int32) (μ : Int32 × Int32 × (Nat → Option Nat)) : Option Nat :=
  b1 (fJ15_checkIndex K p0 μ.2.1) fun r_1 =>
  b1 (fJ14_elementData K p0 μ) fun r_4 =>
  some r_4
set_option maxHeartbeats 4000000 in
set_option maxRecDepth 100000 in
theorem tJ14_get (l : Launch) (D : va_G) (d : Nat → ClassId) (z : ZT) (o ea : Nat) (es : va_W) (K : Nat) (p0 : Int32) (μ : Int32 × Int32 × (Nat → Option Nat)) (r : Nat) (hf : fJ14_get K p0 μ = some r) : CRS l yJ14_get (ws_ yJ14_get cJ14_get 2 (Option.some (Jvm.ClassFile.FieldType.object "java/lang/Object"))) (rmc 2 0 0 43) D d z [.ref o, .int p0] (ALP d o ea μ ++ es) (fun _ : Unit => r) (fun _ => ALP d o ea μ ++ es) (fun _ => True) := by
  refine CRS.of (own := RJ14) rfl (by decide) (Nat.le_of_ble_eq_true rfl) (Or.inl ⟨_, rfl⟩) ?_
  intro p e s m args below meth c A Q ls S hin hK hP hD hZ hS hA hl hret0
  have hret : ∀ (x : Nat) (H : Heap) (locs : List Loc) (pc : Nat) (ls' : Array Slot), some x = some r → decode cJ14_get pc = .ok (.areturn, 1) → va_P D CL (ALP d o ea μ ++ es) H → va_D A (ALP d o ea μ ++ es) → va_S A s.heap H locs → W p l e (rmc 2 0 0 43) s m args below meth c H locs 0 0 Q (F0 m pc ls' [.ref x]) := by
    intro x H locs pc ls' h9 hdg hP hD hS
    obtain rfl := so_1 h9
    exact hret0 () trivial H locs pc ls' hdg hP hD hS
  have hx := S.1
  have hb := S.2.1
  have hts := S.2.2.2.2
  have hl : lv_has ls 2 [(0, .ref o), (1, .int p0)] := hl
  unfold fJ14_get at hf
  refine lv_iload_n hx hb dJ14_get_0 rfl (lv_at hl 1 rfl) ?_
  refine lv_aload_n hx hb dJ14_get_1 rfl (lv_at hl 0 rfl) ?_
  refine g_get hx hb hts S.2.2.2.1 hK hP in_J14 0 rfl rfl 2 (by decide) q797 (fun _ h9 => h9) (v := .int μ.2.1) rfl dJ14_get_2 ?_
  obtain ⟨r_1, h_2, hf⟩ := b1_some hf
  refine si_call S (tJ15_checkIndex l K p0 μ.2.1 _ h_2) (va_cwS 2 hts (lw_S q945 q946 q119 q947) rfl rfl rfl (by decide +kernel) ⟨(Nat.le_of_ble_eq_true rfl), (Nat.le_of_ble_eq_true rfl)⟩) rfl hl.1 rfl (Nat.le_of_ble_eq_true rfl) ⟨(Nat.le_of_ble_eq_true rfl), (Nat.le_of_ble_eq_true rfl)⟩ dJ14_get_5 ?_
  clear h_2
  refine lv_pop hx hb dJ14_get_8 rfl ?_
  refine lv_aload_n hx hb dJ14_get_9 rfl (lv_at hl 0 rfl) ?_
  refine lv_iload_n hx hb dJ14_get_10 rfl (lv_at hl 1 rfl) ?_
  obtain ⟨r_4, h_3, hf⟩ := b1_some hf
  refine runW_rS (va_runV (As := [.int p0]) (rest := []) S (tJ14_elementData l D d z o ea es K p0 μ r_4 h_3 _) (cwV 1 hts (lw_V q949 q950 q951 q118 q952) rfl rfl rfl (by decide +kernel) ⟨(Nat.le_of_ble_eq_true rfl), (Nat.le_of_ble_eq_true rfl)⟩) ⟨Pw.blind, (va_recv hK.1 hP (ci := 18) (q0 := 0) rfl rfl), fun U hU hW => Pw.at hK hP hD hZ hS hA hU hW⟩ rfl rfl hl.1 rfl (lv_room (Nat.le_of_ble_eq_true rfl)) dJ14_get_11 ⟨(Nat.le_of_ble_eq_true rfl), (Nat.le_of_ble_eq_true rfl)⟩) hP hD hS hA ?_
  clear hP hD hS
  intro _ _ H locs hP hD hS
  clear h_3
  refine W.widen (k := 0) (n := 0) (Nat.le_of_ble_eq_true rfl) (Nat.le_of_ble_eq_true rfl) ?_
  exact hret _ _ _ _ _ hf dJ14_get_14 hP hD hS
def fJ14_add_2 (K : Nat) (o0 : Nat) (p2 : Int32) (μ : Int32 × Int32 × (Nat → Option Nat)) : Option (Int32 × Int32 × (Nat → Option Nat)) :=
  if p2 = (16 : Int32) then
    none
  else
    ga (ix p2 16) <|
    some (μ.1, p2 + (1 : Int32), va_up μ.2.2 p2.toNatClampNeg (some o0))
set_option maxHeartbeats 4000000 in
set_option maxRecDepth 100000 in
theorem tJ14_add_2 (l : Launch) (D : va_G) (d : Nat → ClassId) (z : ZT) (o ea : Nat) (es : va_W) (K : Nat) (o0 : Nat) (p2 : Int32) (μ : Int32 × Int32 × (Nat → Option Nat)) (μ' : Int32 × Int32 × (Nat → Option Nat)) (hf : fJ14_add_2 K o0 p2 μ = some μ') (he : ∃ fs, (o0, .inr (16, fs)) ∈ es) : CV l yJ14_add_2 (ws_ yJ14_add_2 cJ14_add_2 4 (Option.none : Option Jvm.ClassFile.FieldType)) (rmc 0 0 0 0) D d z [.ref o, .ref o0, .ref ea, .int p2] (ALP d o ea μ ++ es) (ALP d o ea μ' ++ es) := by
  refine CV.of2 (own := RJ14) rfl (by decide) (Nat.le_of_ble_eq_true rfl) ?_
  intro p e s m args below meth c A Q ls S hin hK hP hD hZ hS hA hl hret0
  have hret : ∀ (μx : Int32 × Int32 × (Nat → Option Nat)) (H : Heap) (locs : List Loc) (pc : Nat) (ls' : Array Slot), some μx = some μ' → decode cJ14_add_2 pc = .ok (.return_, 1) → va_P D CL (ALP d o ea μx ++ es) H → va_D A (ALP d o ea μx ++ es) → va_S A s.heap H locs → W p l e (rmc 0 0 0 0) s m args below meth c H locs 0 0 Q (F0 m pc ls' []) := by
    intro μx H locs pc ls' h9 hdg hP hD hS
    obtain rfl := so_1 h9
    exact hret0 H locs pc ls' hdg hP hD hS
  have hx := S.1
  have hb := S.2.1
  have hts := S.2.2.2.2
  have hl : lv_has ls 4 [(0, .ref o), (1, .ref o0), (2, .ref ea), (3, .int p2)] := hl
  unfold fJ14_add_2 at hf
  refine lv_iload_n hx hb dJ14_add_2_0 rfl (lv_at hl 3 rfl) ?_
  refine lv_aload_n hx hb dJ14_add_2_1 rfl (lv_at hl 2 rfl) ?_
  refine g_len hx hb hK hP 1 4 rfl rfl (v := 16) rfl dJ14_add_2_2 ?_
  refine lv_icmp_ne (tgt := 11) hx hb dJ14_add_2_3 (by decide) (fun c_1 => ?_) (fun c_1 => ?_)
  · replace hf := it_f hf c_1
    clear c_1
    refine lv_aload_n hx hb dJ14_add_2_11 rfl (lv_at hl 2 rfl) ?_
    refine lv_iload_n hx hb dJ14_add_2_12 rfl (lv_at hl 3 rfl) ?_
    refine lv_aload_n hx hb dJ14_add_2_13 rfl (lv_at hl 1 rfl) ?_
    obtain ⟨g_2, hf⟩ := ga_some hf
    refine g_aast hx hb hK hP hD hS 1 (ce := 16) rfl q2231 (List.mem_append_right _ he.choose_spec) rfl (ix_in g_2) (w' := ALP d o ea (μ.1, μ.2.1, va_up μ.2.2 p2.toNatClampNeg (some o0)) ++ es) rfl dJ14_add_2_14 ?_
    clear hP hD hS
    intro H locs hP hD hS
    refine lv_aload_n hx hb dJ14_add_2_15 rfl (lv_at hl 0 rfl) ?_
    refine lv_iload_n hx hb dJ14_add_2_16 rfl (lv_at hl 3 rfl) ?_
    refine lv_iconst (v := 1) hx hb dJ14_add_2_17 (by decide) ?_
    refine lv_iadd hx hb dJ14_add_2_18 ?_
    refine g_put hx hb hts S.2.2.2.1 hK hP hD hS in_J14 tyJ14 tyJ14_ok nmJ14 0 rfl rfl 2 (by decide) q797 (fun _ h9 => h9) rfl (v := .int (p2 + (1 : Int32))) rfl rfl rfl (Nat.le_of_ble_eq_true rfl) (w' := ALP d o ea (μ.1, p2 + (1 : Int32), va_up μ.2.2 p2.toNatClampNeg (some o0)) ++ es) rfl dJ14_add_2_19 ?_
    clear hP hD hS
    intro H locs hP hD hS
    refine W.widen (k := 0) (n := 0) (Nat.le_of_ble_eq_true rfl) (Nat.le_of_ble_eq_true rfl) ?_
    exact hret _ _ _ _ _ hf dJ14_add_2_22 hP hD hS
  · replace hf := it_t hf c_1
    clear c_1
    cases hf
def fJ14_add (K : Nat) (o0 : Nat) (μ : Int32 × Int32 × (Nat → Option Nat)) : Option (Bool × Int32 × Int32 × (Nat → Option Nat)) :=
  b1 (fJ14_add_2 K o0 μ.2.1 (μ.1 + (1 : Int32), μ.2.1, μ.2.2)) fun ξ_2 =>
  some (true, ξ_2)
set_option maxHeartbeats 4000000 in
set_option maxRecDepth 100000 in
theorem tJ14_add (l : Launch) (D : va_G) (d : Nat → ClassId) (z : ZT) (o ea : Nat) (es : va_W) (K : Nat) (o0 : Nat) (μ : Int32 × Int32 × (Nat → Option Nat)) (r : Bool) (μ' : Int32 × Int32 × (Nat → Option Nat)) (hf : fJ14_add K o0 μ = some (r, μ')) (he : ∃ fs, (o0, .inr (16, fs)) ∈ es) : CI l yJ14_add (ws_ yJ14_add cJ14_add 2 (Option.some Jvm.ClassFile.FieldType.boolean)) (rmc 1 0 0 23) D d z [.ref o, .ref o0] (ALP d o ea μ ++ es) (bi r) (ALP d o ea μ' ++ es) := by
  refine CI.of2 (own := RJ14) rfl (by decide) (Nat.le_of_ble_eq_true rfl) (bi_nar r) ?_
  intro p e s m args below meth c A Q ls S hin hK hP hD hZ hS hA hl hret0
  have hret : ∀ (x : Bool) (μx : Int32 × Int32 × (Nat → Option Nat)) (H : Heap) (locs : List Loc) (pc : Nat) (ls' : Array Slot), some (x, μx) = some (r, μ') → decode cJ14_add pc = .ok (.ireturn, 1) → va_P D CL (ALP d o ea μx ++ es) H → va_D A (ALP d o ea μx ++ es) → va_S A s.heap H locs → W p l e (rmc 1 0 0 23) s m args below meth c H locs 0 0 Q (F0 m pc ls' [.int (bi x)]) := by
    intro x μx H locs pc ls' h9 hdg hP hD hS
    obtain ⟨rfl, rfl⟩ := so_2 h9
    exact hret0 H locs pc ls' hdg hP hD hS
  have hx := S.1
  have hb := S.2.1
  have hts := S.2.2.2.2
  have hl : lv_has ls 2 [(0, .ref o), (1, .ref o0)] := hl
  unfold fJ14_add at hf
  refine lv_aload_n hx hb dJ14_add_0 rfl (lv_at hl 0 rfl) ?_
  refine lv_dup hx hb dJ14_add_1 rfl ?_
  refine g_get hx hb hts S.2.2.2.1 hK hP in_J14 0 rfl rfl 0 (by decide) q799 (u_same (hts _ q800)) (v := .int μ.1) rfl dJ14_add_2 ?_
  refine lv_iconst (v := 1) hx hb dJ14_add_5 (by decide) ?_
  refine lv_iadd hx hb dJ14_add_6 ?_
  refine g_put hx hb hts S.2.2.2.1 hK hP hD hS in_J14 tyJ14 tyJ14_ok nmJ14 0 rfl rfl 0 (by decide) q799 (u_same (hts _ q800)) rfl (v := .int (μ.1 + (1 : Int32))) rfl rfl rfl (Nat.le_of_ble_eq_true rfl) (w' := ALP d o ea (μ.1 + (1 : Int32), μ.2.1, μ.2.2) ++ es) rfl dJ14_add_7 ?_
  clear hP hD hS
  intro H locs hP hD hS
  refine lv_aload_n hx hb dJ14_add_10 rfl (lv_at hl 0 rfl) ?_
  refine lv_aload_n hx hb dJ14_add_11 rfl (lv_at hl 1 rfl) ?_
  refine lv_aload_n hx hb dJ14_add_12 rfl (lv_at hl 0 rfl) ?_
  refine g_get hx hb hts S.2.2.2.1 hK hP in_J14 0 rfl rfl 1 (by decide) q796 (fun _ h9 => h9) (v := .ref ea) rfl dJ14_add_13 ?_
  refine lv_aload_n hx hb dJ14_add_16 rfl (lv_at hl 0 rfl) ?_
  refine g_get hx hb hts S.2.2.2.1 hK hP in_J14 0 rfl rfl 2 (by decide) q797 (fun _ h9 => h9) (v := .int μ.2.1) rfl dJ14_add_17 ?_
  obtain ⟨ξ_2, h_1, hf⟩ := b1_some hf
  refine runW_v (va_runV (As := [.ref o0, .ref ea, .int μ.2.1]) (rest := []) S (tJ14_add_2 l D d z o ea es K o0 μ.2.1 (μ.1 + (1 : Int32), μ.2.1, μ.2.2) ξ_2 h_1 he _) (cwV 3 hts (lw_V q958 q960 qs21 q118 q961) rfl rfl rfl (by decide +kernel) ⟨(Nat.le_of_ble_eq_true rfl), (Nat.le_of_ble_eq_true rfl)⟩) ⟨Pw.blind, (va_recv hK.1 hP (ci := 18) (q0 := 0) rfl rfl), fun U hU hW => Pw.at hK hP hD hZ hS hA hU hW⟩ rfl rfl hl.1 rfl (lv_room (Nat.le_of_ble_eq_true rfl)) dJ14_add_20 ⟨(Nat.le_of_ble_eq_true rfl), (Nat.le_of_ble_eq_true rfl)⟩) hP hD hS hA ?_
  clear hP hD hS
  intro H locs hP hD hS
  clear h_1
  refine lv_iconst (v := 1) hx hb dJ14_add_23 (by decide) ?_
  refine W.widen (k := 0) (n := 0) (Nat.le_of_ble_eq_true rfl) (Nat.le_of_ble_eq_true rfl) ?_
  exact hret _ _ _ _ _ _ hf dJ14_add_24 hP hD hS
def fJ14_set (K : Nat) (p0 : Int32) (o1 : Nat) (μ : Int32 × Int32 × (Nat → Option Nat)) : Option (Nat × Int32 × Int32 × (Nat → Option Nat)) :=
  b1 (fJ15_checkIndex K p0 μ.2.1) fun r_1 =>
  b1 (fJ14_elementData K p0 μ) fun r_4 =>
  ga (ix p0 16) <|
  some (r_4, (μ.1, μ.2.1, va_up μ.2.2 p0.toNatClampNeg (some o1)))
set_option maxHeartbeats 4000000 in
set_option maxRecDepth 100000 in
theorem tJ14_set (l : Launch) (D : va_G) (d : Nat → ClassId) (z : ZT) (o ea : Nat) (es : va_W) (K : Nat) (p0 : Int32) (o1 : Nat) (μ : Int32 × Int32 × (Nat → Option Nat)) (r : Nat) (μ' : Int32 × Int32 × (Nat → Option Nat)) (hf : fJ14_set K p0 o1 μ = some (r, μ')) (he : ∃ fs, (o1, .inr (16, fs)) ∈ es) : CRS l yJ14_set (ws_ yJ14_set cJ14_set 4 (Option.some (Jvm.ClassFile.FieldType.object "java/lang/Object"))) (rmc 2 0 0 43) D d z [.ref o, .int p0, .ref o1] (ALP d o ea μ ++ es) (fun _ : Unit => r) (fun _ => ALP d o ea μ' ++ es) (fun _ => True) := by
  refine CRS.of (own := RJ14) rfl (by decide) (Nat.le_of_ble_eq_true rfl) (Or.inl ⟨_, rfl⟩) ?_
  intro p e s m args below meth c A Q ls S hin hK hP hD hZ hS hA hl hret0
  have hret : ∀ (x : Nat) (μx : Int32 × Int32 × (Nat → Option Nat)) (H : Heap) (locs : List Loc) (pc : Nat) (ls' : Array Slot), some (x, μx) = some (r, μ') → decode cJ14_set pc = .ok (.areturn, 1) → va_P D CL (ALP d o ea μx ++ es) H → va_D A (ALP d o ea μx ++ es) → va_S A s.heap H locs → W p l e (rmc 2 0 0 43) s m args below meth c H locs 0 0 Q (F0 m pc ls' [.ref x]) := by
    intro x μx H locs pc ls' h9 hdg hP hD hS
    obtain ⟨rfl, rfl⟩ := so_2 h9
    exact hret0 () trivial H locs pc ls' hdg hP hD hS
  have hx := S.1
  have hb := S.2.1
  have hts := S.2.2.2.2
  have hl : lv_has ls 4 [(0, .ref o), (1, .int p0), (2, .ref o1)] := hl
  unfold fJ14_set at hf
  refine lv_iload_n hx hb dJ14_set_0 rfl (lv_at hl 1 rfl) ?_
  refine lv_aload_n hx hb dJ14_set_1 rfl (lv_at hl 0 rfl) ?_
  refine g_get hx hb hts S.2.2.2.1 hK hP in_J14 0 rfl rfl 2 (by decide) q797 (fun _ h9 => h9) (v := .int μ.2.1) rfl dJ14_set_2 ?_
  obtain ⟨r_1, h_2, hf⟩ := b1_some hf
  refine si_call S (tJ15_checkIndex l K p0 μ.2.1 _ h_2) (va_cwS 2 hts (lw_S q945 q946 q119 q947) rfl rfl rfl (by decide +kernel) ⟨(Nat.le_of_ble_eq_true rfl), (Nat.le_of_ble_eq_true rfl)⟩) rfl hl.1 rfl (Nat.le_of_ble_eq_true rfl) ⟨(Nat.le_of_ble_eq_true rfl), (Nat.le_of_ble_eq_true rfl)⟩ dJ14_set_5 ?_
  clear h_2
  refine lv_pop hx hb dJ14_set_8 rfl ?_
  refine lv_aload_n hx hb dJ14_set_9 rfl (lv_at hl 0 rfl) ?_
  refine lv_iload_n hx hb dJ14_set_10 rfl (lv_at hl 1 rfl) ?_
  obtain ⟨r_4, h_3, hf⟩ := b1_some hf
  refine runW_rS (va_runV (As := [.int p0]) (rest := []) S (tJ14_elementData l D d z o ea es K p0 μ r_4 h_3 _) (cwV 1 hts (lw_V q949 q950 q951 q118 q952) rfl rfl rfl (by decide +kernel) ⟨(Nat.le_of_ble_eq_true rfl), (Nat.le_of_ble_eq_true rfl)⟩) ⟨Pw.blind, (va_recv hK.1 hP (ci := 18) (q0 := 0) rfl rfl), fun U hU hW => Pw.at hK hP hD hZ hS hA hU hW⟩ rfl rfl hl.1 rfl (lv_room (Nat.le_of_ble_eq_true rfl)) dJ14_set_11 ⟨(Nat.le_of_ble_eq_true rfl), (Nat.le_of_ble_eq_true rfl)⟩) hP hD hS hA ?_
  clear hP hD hS
  intro _ _ H locs hP hD hS
  clear h_3
  refine lv_astore_n (lv' := [(3, .ref r_4), (0, .ref o), (1, .int p0), (2, .ref o1)]) hx hb dJ14_set_14 rfl hl (by decide) rfl (fun ls hl => ?_)
  refine lv_aload_n hx hb dJ14_set_15 rfl (lv_at hl 1 rfl) ?_
  refine g_get hx hb hts S.2.2.2.1 hK hP in_J14 0 rfl rfl 1 (by decide) q796 (fun _ h9 => h9) (v := .ref ea) rfl dJ14_set_16 ?_
  refine lv_iload_n hx hb dJ14_set_19 rfl (lv_at hl 2 rfl) ?_
  refine lv_aload_n hx hb dJ14_set_20 rfl (lv_at hl 3 rfl) ?_
  obtain ⟨g_5, hf⟩ := ga_some hf
  refine g_aast hx hb hK hP hD hS 1 (ce := 16) rfl q2231 (List.mem_append_right _ he.choose_spec) rfl (ix_in g_5) (w' := ALP d o ea (μ.1, μ.2.1, va_up μ.2.2 p0.toNatClampNeg (some o1)) ++ es) rfl dJ14_set_21 ?_
  clear hP hD hS
  intro H locs hP hD hS
  refine lv_aload_n hx hb dJ14_set_22 rfl (lv_at hl 0 rfl) ?_
  refine W.widen (k := 0) (n := 0) (Nat.le_of_ble_eq_true rfl) (Nat.le_of_ble_eq_true rfl) ?_
  exact hret _ _ _ _ _ _ hf dJ14_set_23 hP hD hS
def fJ14_rangeCheckForAdd (K : Nat) (p0 : Int32) (μ : Int32 × Int32 × (Nat → Option Nat)) : Option Unit :=
  if μ.2.1 < p0 then
    none
  else
    if 0 ≤ p0 then
      some ()
    else
      none
set_option maxHeartbeats 4000000 in
set_option maxRecDepth 100000 in
theorem tJ14_rangeCheckForAdd (l : Launch) (D : va_G) (d : Nat → ClassId) (z : ZT) (o ea : Nat) (es : va_W) (K : Nat) (p0 : Int32) (μ : Int32 × Int32 × (Nat → Option Nat)) (hf : fJ14_rangeCheckForAdd K p0 μ = some ()) : CV l yJ14_rangeCheckForAdd (ws_ yJ14_rangeCheckForAdd cJ14_rangeCheckForAdd 2 (Option.none : Option Jvm.ClassFile.FieldType)) (rmc 0 0 0 0) D d z [.ref o, .int p0] (ALP d o ea μ ++ es) (ALP d o ea μ ++ es) := by
  refine CV.of2 (own := RJ14) rfl (by decide) (Nat.le_of_ble_eq_true rfl) ?_
  intro p e s m args below meth c A Q ls S hin hK hP hD hZ hS hA hl hret0
  have hret : ∀ (_ : Unit) (H : Heap) (locs : List Loc) (pc : Nat) (ls' : Array Slot), some () = some () → decode cJ14_rangeCheckForAdd pc = .ok (.return_, 1) → va_P D CL (ALP d o ea μ ++ es) H → va_D A (ALP d o ea μ ++ es) → va_S A s.heap H locs → W p l e (rmc 0 0 0 0) s m args below meth c H locs 0 0 Q (F0 m pc ls' []) := by
    intro _ H locs pc ls' h9 hdg hP hD hS
    skip
    exact hret0 H locs pc ls' hdg hP hD hS
  have hx := S.1
  have hb := S.2.1
  have hts := S.2.2.2.2
  have hl : lv_has ls 2 [(0, .ref o), (1, .int p0)] := hl
  unfold fJ14_rangeCheckForAdd at hf
  refine lv_iload_n hx hb dJ14_rangeCheckForAdd_0 rfl (lv_at hl 1 rfl) ?_
  refine lv_aload_n hx hb dJ14_rangeCheckForAdd_1 rfl (lv_at hl 0 rfl) ?_
  refine g_get hx hb hts S.2.2.2.1 hK hP in_J14 0 rfl rfl 2 (by decide) q797 (fun _ h9 => h9) (v := .int μ.2.1) rfl dJ14_rangeCheckForAdd_2 ?_
  refine lv_icmp_gt (tgt := 12) hx hb dJ14_rangeCheckForAdd_5 (by decide) (fun c_1 => ?_) (fun c_1 => ?_)
  · replace hf := it_t hf c_1
    clear c_1
    cases hf
  · replace hf := it_f hf c_1
    clear c_1
    refine lv_iload_n hx hb dJ14_rangeCheckForAdd_8 rfl (lv_at hl 1 rfl) ?_
    refine lv_if_ge (tgt := 25) hx hb dJ14_rangeCheckForAdd_9 (by decide) (fun c_2 => ?_) (fun c_2 => ?_)
    · replace hf := it_t hf c_2
      clear c_2
      refine W.widen (k := 0) (n := 0) (Nat.le_of_ble_eq_true rfl) (Nat.le_of_ble_eq_true rfl) ?_
      exact hret () _ _ _ _ hf dJ14_rangeCheckForAdd_25 hP hD hS
    · replace hf := it_f hf c_2
      clear c_2
      cases hf
def fJ14_add_3 (K : Nat) (p0 : Int32) (o1 : Nat) (μ : Int32 × Int32 × (Nat → Option Nat)) : Option (Int32 × Int32 × (Nat → Option Nat)) :=
  b1 (fJ14_rangeCheckForAdd K p0 μ) fun u_2 =>
  if μ.2.1 = (16 : Int32) then
    none
  else
    ga (0 ≤ p0.toInt ∧ 0 ≤ (p0 + (1 : Int32)).toInt ∧ 0 ≤ (μ.2.1 - p0).toInt ∧ p0.toNatClampNeg + (μ.2.1 - p0).toNatClampNeg ≤ 16 ∧ (p0 + (1 : Int32)).toNatClampNeg + (μ.2.1 - p0).toNatClampNeg ≤ 16) <|
    ga (ix p0 16) <|
    some (μ.1 + (1 : Int32), μ.2.1 + (1 : Int32), va_up (va_cpy μ.2.2 μ.2.2 p0.toNatClampNeg (p0 + (1 : Int32)).toNatClampNeg (μ.2.1 - p0).toNatClampNeg) p0.toNatClampNeg (some o1))
set_option maxHeartbeats 4000000 in
set_option maxRecDepth 100000 in
theorem tJ14_add_3 (l : Launch) (D : va_G) (d : Nat → ClassId) (z : ZT) (o ea : Nat) (es : va_W) (K : Nat) (p0 : Int32) (o1 : Nat) (μ : Int32 × Int32 × (Nat → Option Nat)) (μ' : Int32 × Int32 × (Nat → Option Nat)) (hf : fJ14_add_3 K p0 o1 μ = some μ') (he : ∃ fs, (o1, .inr (16, fs)) ∈ es) (hes : ∀ j q, μ.2.2 j = some q → ∃ fs, (q, .inr (16, fs)) ∈ es) : CV l yJ14_add_3 (ws_ yJ14_add_3 cJ14_add_3 5 (Option.none : Option Jvm.ClassFile.FieldType)) (rmc 1 0 0 21) D d z [.ref o, .int p0, .ref o1] (ALP d o ea μ ++ es) (ALP d o ea μ' ++ es) := by
  refine CV.of2 (own := RJ14) rfl (by decide) (Nat.le_of_ble_eq_true rfl) ?_
  intro p e s m args below meth c A Q ls S hin hK hP hD hZ hS hA hl hret0
  have hret : ∀ (μx : Int32 × Int32 × (Nat → Option Nat)) (H : Heap) (locs : List Loc) (pc : Nat) (ls' : Array Slot), some μx = some μ' → decode cJ14_add_3 pc = .ok (.return_, 1) → va_P D CL (ALP d o ea μx ++ es) H → va_D A (ALP d o ea μx ++ es) → va_S A s.heap H locs → W p l e (rmc 1 0 0 21) s m args below meth c H locs 0 0 Q (F0 m pc ls' []) := by
    intro μx H locs pc ls' h9 hdg hP hD hS
    obtain rfl := so_1 h9
    exact hret0 H locs pc ls' hdg hP hD hS
  have hx := S.1
  have hb := S.2.1
  have hts := S.2.2.2.2
  have hl : lv_has ls 5 [(0, .ref o), (1, .int p0), (2, .ref o1)] := hl
  unfold fJ14_add_3 at hf
  refine lv_aload_n hx hb dJ14_add_3_0 rfl (lv_at hl 0 rfl) ?_
  refine lv_iload_n hx hb dJ14_add_3_1 rfl (lv_at hl 1 rfl) ?_
  obtain ⟨u_2, h_1, hf⟩ := b1_some hf
  refine runW_v (va_runV (As := [.int p0]) (rest := []) S (tJ14_rangeCheckForAdd l D d z o ea es K p0 μ h_1 _) (cwV 1 hts (lw_V q1534 q1536 qs46 q118 q1537) rfl rfl rfl (by decide +kernel) ⟨(Nat.le_of_ble_eq_true rfl), (Nat.le_of_ble_eq_true rfl)⟩) ⟨Pw.blind, (va_recv hK.1 hP (ci := 18) (q0 := 0) rfl rfl), fun U hU hW => Pw.at hK hP hD hZ hS hA hU hW⟩ rfl rfl hl.1 rfl (lv_room (Nat.le_of_ble_eq_true rfl)) dJ14_add_3_2 ⟨(Nat.le_of_ble_eq_true rfl), (Nat.le_of_ble_eq_true rfl)⟩) hP hD hS hA ?_
  clear hP hD hS
  intro H locs hP hD hS
  clear h_1
  refine lv_aload_n hx hb dJ14_add_3_5 rfl (lv_at hl 0 rfl) ?_
  refine lv_dup hx hb dJ14_add_3_6 rfl ?_
  refine g_get hx hb hts S.2.2.2.1 hK hP in_J14 0 rfl rfl 0 (by decide) q799 (u_same (hts _ q800)) (v := .int μ.1) rfl dJ14_add_3_7 ?_
  refine lv_iconst (v := 1) hx hb dJ14_add_3_10 (by decide) ?_
  refine lv_iadd hx hb dJ14_add_3_11 ?_
  refine g_put hx hb hts S.2.2.2.1 hK hP hD hS in_J14 tyJ14 tyJ14_ok nmJ14 0 rfl rfl 0 (by decide) q799 (u_same (hts _ q800)) rfl (v := .int (μ.1 + (1 : Int32))) rfl rfl rfl (Nat.le_of_ble_eq_true rfl) (w' := ALP d o ea (μ.1 + (1 : Int32), μ.2.1, μ.2.2) ++ es) rfl dJ14_add_3_12 ?_
  clear hP hD hS
  intro H locs hP hD hS
  refine lv_aload_n hx hb dJ14_add_3_15 rfl (lv_at hl 0 rfl) ?_
  refine g_get hx hb hts S.2.2.2.1 hK hP in_J14 0 rfl rfl 2 (by decide) q797 (fun _ h9 => h9) (v := .int μ.2.1) rfl dJ14_add_3_16 ?_
  refine lv_dup hx hb dJ14_add_3_19 rfl ?_
  refine lv_istore_n (lv' := [(3, .int μ.2.1), (0, .ref o), (1, .int p0), (2, .ref o1)]) hx hb dJ14_add_3_20 rfl hl (by decide) rfl (fun ls hl => ?_)
  refine lv_aload_n hx hb dJ14_add_3_21 rfl (lv_at hl 1 rfl) ?_
  refine g_get hx hb hts S.2.2.2.1 hK hP in_J14 0 rfl rfl 1 (by decide) q796 (fun _ h9 => h9) (v := .ref ea) rfl dJ14_add_3_22 ?_
  refine lv_dup hx hb dJ14_add_3_25 rfl ?_
  refine lv_astore (lv' := [(4, .ref ea), (3, .int μ.2.1), (0, .ref o), (1, .int p0), (2, .ref o1)]) hx hb dJ14_add_3_26 hl (by decide) rfl (fun ls hl => ?_)
  refine g_len hx hb hK hP 1 4 rfl rfl (v := 16) rfl dJ14_add_3_28 ?_
  refine lv_icmp_ne (tgt := 38) hx hb dJ14_add_3_29 (by decide) (fun c_3 => ?_) (fun c_3 => ?_)
  · replace hf := it_f hf c_3
    clear c_3
    refine lv_aload hx hb dJ14_add_3_38 (lv_at hl 0 rfl) ?_
    refine lv_iload_n hx hb dJ14_add_3_40 rfl (lv_at hl 3 rfl) ?_
    refine lv_aload hx hb dJ14_add_3_41 (lv_at hl 0 rfl) ?_
    refine lv_iload_n hx hb dJ14_add_3_43 rfl (lv_at hl 3 rfl) ?_
    refine lv_iconst (v := 1) hx hb dJ14_add_3_44 (by decide) ?_
    refine lv_iadd hx hb dJ14_add_3_45 ?_
    refine lv_iload_n hx hb dJ14_add_3_46 rfl (lv_at hl 1 rfl) ?_
    refine lv_iload_n hx hb dJ14_add_3_47 rfl (lv_at hl 3 rfl) ?_
    refine lv_isub hx hb dJ14_add_3_48 ?_
    obtain ⟨g_4, hf⟩ := ga_some hf
    refine g_copyq hx hb (S.2.2.1.trans hl.1.symm) hts S.2.2.2.1 q1538 q532 q531 q110 hK hP hD hS 1 1 (ce := 16) rfl q2231 rfl rfl (fun j q hq => (hes j q hq).imp fun _ h => List.mem_append_right _ h) g_4.1 g_4.2.1 g_4.2.2.1 g_4.2.2.2.1 g_4.2.2.2.2 (Nat.le_of_ble_eq_true rfl) (Nat.le_of_ble_eq_true rfl) (w' := ALP d o ea (μ.1 + (1 : Int32), μ.2.1, va_cpy μ.2.2 μ.2.2 p0.toNatClampNeg (p0 + (1 : Int32)).toNatClampNeg (μ.2.1 - p0).toNatClampNeg) ++ es) rfl dJ14_add_3_49 ?_
    clear hP hD hS
    intro H locs hP hD hS
    refine lv_aload hx hb dJ14_add_3_52 (lv_at hl 0 rfl) ?_
    refine lv_iload_n hx hb dJ14_add_3_54 rfl (lv_at hl 3 rfl) ?_
    refine lv_aload_n hx hb dJ14_add_3_55 rfl (lv_at hl 4 rfl) ?_
    obtain ⟨g_5, hf⟩ := ga_some hf
    refine g_aast hx hb hK hP hD hS 1 (ce := 16) rfl q2231 (List.mem_append_right _ he.choose_spec) rfl (ix_in g_5) (w' := ALP d o ea (μ.1 + (1 : Int32), μ.2.1, va_up (va_cpy μ.2.2 μ.2.2 p0.toNatClampNeg (p0 + (1 : Int32)).toNatClampNeg (μ.2.1 - p0).toNatClampNeg) p0.toNatClampNeg (some o1)) ++ es) rfl dJ14_add_3_56 ?_
    clear hP hD hS
    intro H locs hP hD hS
    refine lv_aload_n hx hb dJ14_add_3_57 rfl (lv_at hl 2 rfl) ?_
    refine lv_iload_n hx hb dJ14_add_3_58 rfl (lv_at hl 1 rfl) ?_
    refine lv_iconst (v := 1) hx hb dJ14_add_3_59 (by decide) ?_
    refine lv_iadd hx hb dJ14_add_3_60 ?_
    refine g_put hx hb hts S.2.2.2.1 hK hP hD hS in_J14 tyJ14 tyJ14_ok nmJ14 0 rfl rfl 2 (by decide) q797 (fun _ h9 => h9) rfl (v := .int (μ.2.1 + (1 : Int32))) rfl rfl rfl (Nat.le_of_ble_eq_true rfl) (w' := ALP d o ea (μ.1 + (1 : Int32), μ.2.1 + (1 : Int32), va_up (va_cpy μ.2.2 μ.2.2 p0.toNatClampNeg (p0 + (1 : Int32)).toNatClampNeg (μ.2.1 - p0).toNatClampNeg) p0.toNatClampNeg (some o1)) ++ es) rfl dJ14_add_3_61 ?_
    clear hP hD hS
    intro H locs hP hD hS
    refine W.widen (k := 0) (n := 0) (Nat.le_of_ble_eq_true rfl) (Nat.le_of_ble_eq_true rfl) ?_
    exact hret _ _ _ _ _ hf dJ14_add_3_64 hP hD hS
  · replace hf := it_t hf c_3
    clear c_3
    cases hf
def fJ14_fastRemove (K : Nat) (p1 : Int32) (μ : Int32 × Int32 × (Nat → Option Nat)) : Option (Int32 × Int32 × (Nat → Option Nat)) :=
  nm (μ.2.1 - (1 : Int32)) fun v_1 =>
  if (μ.2.1 - (1 : Int32)) ≤ p1 then
    ga (ix v_1 16) <|
    some (μ.1 + (1 : Int32), v_1, va_up μ.2.2 v_1.toNatClampNeg none)
  else
    ga (0 ≤ (p1 + (1 : Int32)).toInt ∧ 0 ≤ p1.toInt ∧ 0 ≤ (v_1 - p1).toInt ∧ (p1 + (1 : Int32)).toNatClampNeg + (v_1 - p1).toNatClampNeg ≤ 16 ∧ p1.toNatClampNeg + (v_1 - p1).toNatClampNeg ≤ 16) <|
    ga (ix v_1 16) <|
    some (μ.1 + (1 : Int32), v_1, va_up (va_cpy μ.2.2 μ.2.2 (p1 + (1 : Int32)).toNatClampNeg p1.toNatClampNeg (v_1 - p1).toNatClampNeg) v_1.toNatClampNeg none)
set_option maxHeartbeats 4000000 in
set_option maxRecDepth 100000 in
theorem tJ14_fastRemove (l : Launch) (D : va_G) (d : Nat → ClassId) (z : ZT) (o ea : Nat) (es : va_W) (K : Nat) (p1 : Int32) (μ : Int32 × Int32 × (Nat → Option Nat)) (μ' : Int32 × Int32 × (Nat → Option Nat)) (hf : fJ14_fastRemove K p1 μ = some μ') (hes : ∀ j q, μ.2.2 j = some q → ∃ fs, (q, .inr (16, fs)) ∈ es) : CV l yJ14_fastRemove (ws_ yJ14_fastRemove cJ14_fastRemove 4 (Option.none : Option Jvm.ClassFile.FieldType)) (rmc 1 0 0 18) D d z [.ref o, .ref ea, .int p1] (ALP d o ea μ ++ es) (ALP d o ea μ' ++ es) := by
  refine CV.of2 (own := RJ14) rfl (by decide) (Nat.le_of_ble_eq_true rfl) ?_
  intro p e s m args below meth c A Q ls S hin hK hP hD hZ hS hA hl hret0
  have hret : ∀ (μx : Int32 × Int32 × (Nat → Option Nat)) (H : Heap) (locs : List Loc) (pc : Nat) (ls' : Array Slot), some μx = some μ' → decode cJ14_fastRemove pc = .ok (.return_, 1) → va_P D CL (ALP d o ea μx ++ es) H → va_D A (ALP d o ea μx ++ es) → va_S A s.heap H locs → W p l e (rmc 1 0 0 18) s m args below meth c H locs 0 0 Q (F0 m pc ls' []) := by
    intro μx H locs pc ls' h9 hdg hP hD hS
    obtain rfl := so_1 h9
    exact hret0 H locs pc ls' hdg hP hD hS
  have hx := S.1
  have hb := S.2.1
  have hts := S.2.2.2.2
  have hl : lv_has ls 4 [(0, .ref o), (1, .ref ea), (2, .int p1)] := hl
  unfold fJ14_fastRemove at hf
  refine lv_aload_n hx hb dJ14_fastRemove_0 rfl (lv_at hl 0 rfl) ?_
  refine lv_dup hx hb dJ14_fastRemove_1 rfl ?_
  refine g_get hx hb hts S.2.2.2.1 hK hP in_J14 0 rfl rfl 0 (by decide) q799 (u_same (hts _ q800)) (v := .int μ.1) rfl dJ14_fastRemove_2 ?_
  refine lv_iconst (v := 1) hx hb dJ14_fastRemove_5 (by decide) ?_
  refine lv_iadd hx hb dJ14_fastRemove_6 ?_
  refine g_put hx hb hts S.2.2.2.1 hK hP hD hS in_J14 tyJ14 tyJ14_ok nmJ14 0 rfl rfl 0 (by decide) q799 (u_same (hts _ q800)) rfl (v := .int (μ.1 + (1 : Int32))) rfl rfl rfl (Nat.le_of_ble_eq_true rfl) (w' := ALP d o ea (μ.1 + (1 : Int32), μ.2.1, μ.2.2) ++ es) rfl dJ14_fastRemove_7 ?_
  clear hP hD hS
  intro H locs hP hD hS
  refine lv_aload_n hx hb dJ14_fastRemove_10 rfl (lv_at hl 0 rfl) ?_
  refine g_get hx hb hts S.2.2.2.1 hK hP in_J14 0 rfl rfl 2 (by decide) q797 (fun _ h9 => h9) (v := .int μ.2.1) rfl dJ14_fastRemove_11 ?_
  refine lv_iconst (v := 1) hx hb dJ14_fastRemove_14 (by decide) ?_
  refine lv_isub hx hb dJ14_fastRemove_15 ?_
  refine lv_dup hx hb dJ14_fastRemove_16 rfl ?_
  refine lv_topi (fun v_1 e_ => ?_)
  replace hf := nm_some hf v_1 e_
  clear e_
  refine lv_istore_n (lv' := [(3, .int v_1), (0, .ref o), (1, .ref ea), (2, .int p1)]) hx hb dJ14_fastRemove_17 rfl hl (by decide) rfl (fun ls hl => ?_)
  refine lv_iload_n hx hb dJ14_fastRemove_18 rfl (lv_at hl 3 rfl) ?_
  refine lv_icmp_le (tgt := 34) hx hb dJ14_fastRemove_19 (by decide) (fun c_2 => ?_) (fun c_2 => ?_)
  · replace hf := it_t hf c_2
    clear c_2
    refine lv_aload_n hx hb dJ14_fastRemove_34 rfl (lv_at hl 2 rfl) ?_
    refine lv_aload_n hx hb dJ14_fastRemove_35 rfl (lv_at hl 1 rfl) ?_
    refine lv_iload_n hx hb dJ14_fastRemove_36 rfl (lv_at hl 0 rfl) ?_
    refine lv_dup_x1 hx hb dJ14_fastRemove_37 rfl rfl ?_
    refine g_put hx hb hts S.2.2.2.1 hK hP hD hS in_J14 tyJ14 tyJ14_ok nmJ14 0 rfl rfl 2 (by decide) q797 (fun _ h9 => h9) rfl (v := .int v_1) rfl rfl rfl (Nat.le_of_ble_eq_true rfl) (w' := ALP d o ea (μ.1 + (1 : Int32), v_1, μ.2.2) ++ es) rfl dJ14_fastRemove_38 ?_
    clear hP hD hS
    intro H locs hP hD hS
    refine lv_null hx hb dJ14_fastRemove_41 ?_
    obtain ⟨g_3, hf⟩ := ga_some hf
    refine g_aastN hx hb hK hP hD hS 1 rfl (ix_in g_3) (w' := ALP d o ea (μ.1 + (1 : Int32), v_1, va_up μ.2.2 v_1.toNatClampNeg none) ++ es) rfl dJ14_fastRemove_42 ?_
    clear hP hD hS
    intro H locs hP hD hS
    refine W.widen (k := 0) (n := 0) (Nat.le_of_ble_eq_true rfl) (Nat.le_of_ble_eq_true rfl) ?_
    exact hret _ _ _ _ _ hf dJ14_fastRemove_43 hP hD hS
  · replace hf := it_f hf c_2
    clear c_2
    refine lv_aload_n hx hb dJ14_fastRemove_22 rfl (lv_at hl 2 rfl) ?_
    refine lv_iload_n hx hb dJ14_fastRemove_23 rfl (lv_at hl 3 rfl) ?_
    refine lv_iconst (v := 1) hx hb dJ14_fastRemove_24 (by decide) ?_
    refine lv_iadd hx hb dJ14_fastRemove_25 ?_
    refine lv_aload_n hx hb dJ14_fastRemove_26 rfl (lv_at hl 2 rfl) ?_
    refine lv_iload_n hx hb dJ14_fastRemove_27 rfl (lv_at hl 3 rfl) ?_
    refine lv_iload_n hx hb dJ14_fastRemove_28 rfl (lv_at hl 0 rfl) ?_
    refine lv_iload_n hx hb dJ14_fastRemove_29 rfl (lv_at hl 3 rfl) ?_
    refine lv_isub hx hb dJ14_fastRemove_30 ?_
    obtain ⟨g_4, hf⟩ := ga_some hf
    refine g_copyq hx hb (S.2.2.1.trans hl.1.symm) hts S.2.2.2.1 q1538 q532 q531 q110 hK hP hD hS 1 1 (ce := 16) rfl q2231 rfl rfl (fun j q hq => (hes j q hq).imp fun _ h => List.mem_append_right _ h) g_4.1 g_4.2.1 g_4.2.2.1 g_4.2.2.2.1 g_4.2.2.2.2 (Nat.le_of_ble_eq_true rfl) (Nat.le_of_ble_eq_true rfl) (w' := ALP d o ea (μ.1 + (1 : Int32), μ.2.1, va_cpy μ.2.2 μ.2.2 (p1 + (1 : Int32)).toNatClampNeg p1.toNatClampNeg (v_1 - p1).toNatClampNeg) ++ es) rfl dJ14_fastRemove_31 ?_
    clear hP hD hS
    intro H locs hP hD hS
    refine lv_aload_n hx hb dJ14_fastRemove_34 rfl (lv_at hl 2 rfl) ?_
    refine lv_aload_n hx hb dJ14_fastRemove_35 rfl (lv_at hl 1 rfl) ?_
    refine lv_iload_n hx hb dJ14_fastRemove_36 rfl (lv_at hl 0 rfl) ?_
    refine lv_dup_x1 hx hb dJ14_fastRemove_37 rfl rfl ?_
    refine g_put hx hb hts S.2.2.2.1 hK hP hD hS in_J14 tyJ14 tyJ14_ok nmJ14 0 rfl rfl 2 (by decide) q797 (fun _ h9 => h9) rfl (v := .int v_1) rfl rfl rfl (Nat.le_of_ble_eq_true rfl) (w' := ALP d o ea (μ.1 + (1 : Int32), v_1, va_cpy μ.2.2 μ.2.2 (p1 + (1 : Int32)).toNatClampNeg p1.toNatClampNeg (v_1 - p1).toNatClampNeg) ++ es) rfl dJ14_fastRemove_38 ?_
    clear hP hD hS
    intro H locs hP hD hS
    refine lv_null hx hb dJ14_fastRemove_41 ?_
    obtain ⟨g_5, hf⟩ := ga_some hf
    refine g_aastN hx hb hK hP hD hS 1 rfl (ix_in g_5) (w' := ALP d o ea (μ.1 + (1 : Int32), v_1, va_up (va_cpy μ.2.2 μ.2.2 (p1 + (1 : Int32)).toNatClampNeg p1.toNatClampNeg (v_1 - p1).toNatClampNeg) v_1.toNatClampNeg none) ++ es) rfl dJ14_fastRemove_42 ?_
    clear hP hD hS
    intro H locs hP hD hS
    refine W.widen (k := 0) (n := 0) (Nat.le_of_ble_eq_true rfl) (Nat.le_of_ble_eq_true rfl) ?_
    exact hret _ _ _ _ _ hf dJ14_fastRemove_43 hP hD hS
def fJ14_remove (K : Nat) (p0 : Int32) (μ : Int32 × Int32 × (Nat → Option Nat)) : Option (Nat × Int32 × Int32 × (Nat → Option Nat)) :=
  b1 (fJ15_checkIndex K p0 μ.2.1) fun r_1 =>
  ga (ix p0 16) <|
  b1 (μ.2.2 p0.toNatClampNeg) fun q_4 =>
  b1 (fJ14_fastRemove K p0 μ) fun ξ_6 =>
  some (q_4, ξ_6)
set_option maxHeartbeats 4000000 in
set_option maxRecDepth 100000 in
theorem tJ14_remove (l : Launch) (D : va_G) (d : Nat → ClassId) (z : ZT) (o ea : Nat) (es : va_W) (K : Nat) (p0 : Int32) (μ : Int32 × Int32 × (Nat → Option Nat)) (r : Nat) (μ' : Int32 × Int32 × (Nat → Option Nat)) (hf : fJ14_remove K p0 μ = some (r, μ')) (hes : ∀ j q, μ.2.2 j = some q → ∃ fs, (q, .inr (16, fs)) ∈ es) : CRS l yJ14_remove (ws_ yJ14_remove cJ14_remove 4 (Option.some (Jvm.ClassFile.FieldType.object "java/lang/Object"))) (rmc 2 0 0 43) D d z [.ref o, .int p0] (ALP d o ea μ ++ es) (fun _ : Unit => r) (fun _ => ALP d o ea μ' ++ es) (fun _ => True) := by
  refine CRS.of (own := RJ14) rfl (by decide) (Nat.le_of_ble_eq_true rfl) (Or.inl ⟨_, rfl⟩) ?_
  intro p e s m args below meth c A Q ls S hin hK hP hD hZ hS hA hl hret0
  have hret : ∀ (x : Nat) (μx : Int32 × Int32 × (Nat → Option Nat)) (H : Heap) (locs : List Loc) (pc : Nat) (ls' : Array Slot), some (x, μx) = some (r, μ') → decode cJ14_remove pc = .ok (.areturn, 1) → va_P D CL (ALP d o ea μx ++ es) H → va_D A (ALP d o ea μx ++ es) → va_S A s.heap H locs → W p l e (rmc 2 0 0 43) s m args below meth c H locs 0 0 Q (F0 m pc ls' [.ref x]) := by
    intro x μx H locs pc ls' h9 hdg hP hD hS
    obtain ⟨rfl, rfl⟩ := so_2 h9
    exact hret0 () trivial H locs pc ls' hdg hP hD hS
  have hx := S.1
  have hb := S.2.1
  have hts := S.2.2.2.2
  have hl : lv_has ls 4 [(0, .ref o), (1, .int p0)] := hl
  unfold fJ14_remove at hf
  refine lv_iload_n hx hb dJ14_remove_0 rfl (lv_at hl 1 rfl) ?_
  refine lv_aload_n hx hb dJ14_remove_1 rfl (lv_at hl 0 rfl) ?_
  refine g_get hx hb hts S.2.2.2.1 hK hP in_J14 0 rfl rfl 2 (by decide) q797 (fun _ h9 => h9) (v := .int μ.2.1) rfl dJ14_remove_2 ?_
  obtain ⟨r_1, h_2, hf⟩ := b1_some hf
  refine si_call S (tJ15_checkIndex l K p0 μ.2.1 _ h_2) (va_cwS 2 hts (lw_S q945 q946 q119 q947) rfl rfl rfl (by decide +kernel) ⟨(Nat.le_of_ble_eq_true rfl), (Nat.le_of_ble_eq_true rfl)⟩) rfl hl.1 rfl (Nat.le_of_ble_eq_true rfl) ⟨(Nat.le_of_ble_eq_true rfl), (Nat.le_of_ble_eq_true rfl)⟩ dJ14_remove_5 ?_
  clear h_2
  refine lv_pop hx hb dJ14_remove_8 rfl ?_
  refine lv_aload_n hx hb dJ14_remove_9 rfl (lv_at hl 0 rfl) ?_
  refine g_get hx hb hts S.2.2.2.1 hK hP in_J14 0 rfl rfl 1 (by decide) q796 (fun _ h9 => h9) (v := .ref ea) rfl dJ14_remove_10 ?_
  refine lv_astore_n (lv' := [(2, .ref ea), (0, .ref o), (1, .int p0)]) hx hb dJ14_remove_13 rfl hl (by decide) rfl (fun ls hl => ?_)
  refine lv_aload_n hx hb dJ14_remove_14 rfl (lv_at hl 0 rfl) ?_
  refine lv_iload_n hx hb dJ14_remove_15 rfl (lv_at hl 2 rfl) ?_
  obtain ⟨g_3, hf⟩ := ga_some hf
  obtain ⟨q_4, hq_4, hf⟩ := b1_some hf
  refine g_aald hx hb hK hP 1 4 rfl rfl (ix_in g_3) dJ14_remove_16 ?_
  rw [hq_4]
  refine lv_astore_n (lv' := [(3, .ref q_4), (2, .ref ea), (0, .ref o), (1, .int p0)]) hx hb dJ14_remove_17 rfl hl (by decide) rfl (fun ls hl => ?_)
  refine lv_aload_n hx hb dJ14_remove_18 rfl (lv_at hl 2 rfl) ?_
  refine lv_aload_n hx hb dJ14_remove_19 rfl (lv_at hl 1 rfl) ?_
  refine lv_iload_n hx hb dJ14_remove_20 rfl (lv_at hl 3 rfl) ?_
  obtain ⟨ξ_6, h_5, hf⟩ := b1_some hf
  refine runW_v (va_runV (As := [.ref ea, .int p0]) (rest := []) S (tJ14_fastRemove l D d z o ea es K p0 μ ξ_6 h_5 hes _) (cwV 2 hts (lw_V q1555 q1557 qs48 q118 q1558) rfl rfl rfl (by decide +kernel) ⟨(Nat.le_of_ble_eq_true rfl), (Nat.le_of_ble_eq_true rfl)⟩) ⟨Pw.blind, (va_recv hK.1 hP (ci := 18) (q0 := 0) rfl rfl), fun U hU hW => Pw.at hK hP hD hZ hS hA hU hW⟩ rfl rfl hl.1 rfl (lv_room (Nat.le_of_ble_eq_true rfl)) dJ14_remove_21 ⟨(Nat.le_of_ble_eq_true rfl), (Nat.le_of_ble_eq_true rfl)⟩) hP hD hS hA ?_
  clear hP hD hS
  intro H locs hP hD hS
  clear h_5
  refine lv_aload_n hx hb dJ14_remove_24 rfl (lv_at hl 0 rfl) ?_
  refine W.widen (k := 0) (n := 0) (Nat.le_of_ble_eq_true rfl) (Nat.le_of_ble_eq_true rfl) ?_
  exact hret _ _ _ _ _ _ hf dJ14_remove_25 hP hD hS
def fJ2_sub (K : Nat) (p0 : Int32) (p1 : Int32) (p2 : Int32) : Option Int32 :=
  nm (p0 - p1) fun v_1 =>
  if 0 ≤ (p0 - p1) then
    some v_1
  else
    nm (v_1 + p2) fun v_3 =>
    some v_3
set_option maxHeartbeats 4000000 in
set_option maxRecDepth 100000 in
theorem tJ2_sub (l : Launch) (K : Nat) (p0 : Int32) (p1 : Int32) (p2 : Int32) (r : Int32) (hf : fJ2_sub K p0 p1 p2 = some r) : SI l yJ2_sub (ws_ yJ2_sub cJ2_sub 3 (Option.some Jvm.ClassFile.FieldType.int)) 0 0 [.int p0, .int p1, .int p2] r := by
  refine sI_of (own := RJ2) rfl (by decide) (Nat.le_of_ble_eq_true rfl) ?_
  intro p e s m args below meth c Q ls S hl hret
  have hx := S.1
  have hb := S.2.1
  have hts := S.2.2.2.2
  have hl : lv_has ls 3 [(0, .int p0), (1, .int p1), (2, .int p2)] := hl
  unfold fJ2_sub at hf
  refine lv_iload_n hx hb dJ2_sub_0 rfl (lv_at hl 0 rfl) ?_
  refine lv_iload_n hx hb dJ2_sub_1 rfl (lv_at hl 1 rfl) ?_
  refine lv_isub hx hb dJ2_sub_2 ?_
  refine lv_dup hx hb dJ2_sub_3 rfl ?_
  refine lv_topi (fun v_1 e_ => ?_)
  replace hf := nm_some hf v_1 e_
  clear e_
  refine lv_istore_n (lv' := [(0, .int v_1), (1, .int p1), (2, .int p2)]) hx hb dJ2_sub_4 rfl hl (by decide) rfl (fun ls hl => ?_)
  refine lv_if_ge (tgt := 12) hx hb dJ2_sub_5 (by decide) (fun c_2 => ?_) (fun c_2 => ?_)
  · replace hf := it_t hf c_2
    clear c_2
    refine lv_iload_n hx hb dJ2_sub_12 rfl (lv_at hl 0 rfl) ?_
    exact hret _ _ _ hf dJ2_sub_13
  · replace hf := it_f hf c_2
    clear c_2
    refine lv_iload_n hx hb dJ2_sub_8 rfl (lv_at hl 0 rfl) ?_
    refine lv_iload_n hx hb dJ2_sub_9 rfl (lv_at hl 2 rfl) ?_
    refine lv_iadd hx hb dJ2_sub_10 ?_
    refine lv_topi (fun v_3 e_ => ?_)
    replace hf := nm_some hf v_3 e_
    clear e_
    refine lv_istore_n (lv' := [(0, .int v_3), (1, .int p1), (2, .int p2)]) hx hb dJ2_sub_11 rfl hl (by decide) rfl (fun ls hl => ?_)
    refine lv_iload_n hx hb dJ2_sub_12 rfl (lv_at hl 0 rfl) ?_
    exact hret _ _ _ hf dJ2_sub_13
def fJ2_inc (K : Nat) (p0 : Int32) (p1 : Int32) : Option Int32 :=
  if (p0 + (1 : Int32)) < p1 then
    some (p0 + (1 : Int32))
  else
    some (0 : Int32)
set_option maxHeartbeats 4000000 in
set_option maxRecDepth 100000 in
theorem tJ2_inc (l : Launch) (K : Nat) (p0 : Int32) (p1 : Int32) (r : Int32) (hf : fJ2_inc K p0 p1 = some r) : SI l yJ2_inc (ws_ yJ2_inc cJ2_inc 2 (Option.some Jvm.ClassFile.FieldType.int)) 0 0 [.int p0, .int p1] r := by
  refine sI_of (own := RJ2) rfl (by decide) (Nat.le_of_ble_eq_true rfl) ?_
  intro p e s m args below meth c Q ls S hl hret
  have hx := S.1
  have hb := S.2.1
  have hts := S.2.2.2.2
  have hl : lv_has ls 2 [(0, .int p0), (1, .int p1)] := hl
  unfold fJ2_inc at hf
  refine lv_iinc (v := p0 + (1 : Int32)) (lv' := [(0, .int (p0 + (1 : Int32))), (1, .int p1)]) hx hb dJ2_inc_0 hl (k := 0) rfl rfl (by decide) rfl (fun ls hl => ?_)
  refine lv_iload_n hx hb dJ2_inc_3 rfl (lv_at hl 0 rfl) ?_
  refine lv_iload_n hx hb dJ2_inc_4 rfl (lv_at hl 1 rfl) ?_
  refine lv_icmp_lt (tgt := 10) hx hb dJ2_inc_5 (by decide) (fun c_1 => ?_) (fun c_1 => ?_)
  · replace hf := it_t hf c_1
    clear c_1
    refine lv_iload_n hx hb dJ2_inc_10 rfl (lv_at hl 0 rfl) ?_
    exact hret _ _ _ hf dJ2_inc_11
  · replace hf := it_f hf c_1
    clear c_1
    refine lv_iconst (v := 0) hx hb dJ2_inc_8 (by decide) ?_
    refine lv_istore_n (lv' := [(0, .int (0 : Int32)), (1, .int p1)]) hx hb dJ2_inc_9 rfl hl (by decide) rfl (fun ls hl => ?_)
    refine lv_iload_n hx hb dJ2_inc_10 rfl (lv_at hl 0 rfl) ?_
    exact hret _ _ _ hf dJ2_inc_11
def fJ2_dec (K : Nat) (p0 : Int32) (p1 : Int32) : Option Int32 :=
  if 0 ≤ (p0 + (-1 : Int32)) then
    some (p0 + (-1 : Int32))
  else
    nm (p1 - (1 : Int32)) fun v_2 =>
    some v_2
set_option maxHeartbeats 4000000 in
set_option maxRecDepth 100000 in
theorem tJ2_dec (l : Launch) (K : Nat) (p0 : Int32) (p1 : Int32) (r : Int32) (hf : fJ2_dec K p0 p1 = some r) : SI l yJ2_dec (ws_ yJ2_dec cJ2_dec 2 (Option.some Jvm.ClassFile.FieldType.int)) 0 0 [.int p0, .int p1] r := by
  refine sI_of (own := RJ2) rfl (by decide) (Nat.le_of_ble_eq_true rfl) ?_
  intro p e s m args below meth c Q ls S hl hret
  have hx := S.1
  have hb := S.2.1
  have hts := S.2.2.2.2
  have hl : lv_has ls 2 [(0, .int p0), (1, .int p1)] := hl
  unfold fJ2_dec at hf
  refine lv_iinc (v := p0 + (-1 : Int32)) (lv' := [(0, .int (p0 + (-1 : Int32))), (1, .int p1)]) hx hb dJ2_dec_0 hl (k := 0) rfl rfl (by decide) rfl (fun ls hl => ?_)
  refine lv_iload_n hx hb dJ2_dec_3 rfl (lv_at hl 0 rfl) ?_
  refine lv_if_ge (tgt := 11) hx hb dJ2_dec_4 (by decide) (fun c_1 => ?_) (fun c_1 => ?_)
  · replace hf := it_t hf c_1
    clear c_1
    refine lv_iload_n hx hb dJ2_dec_11 rfl (lv_at hl 0 rfl) ?_
    exact hret _ _ _ hf dJ2_dec_12
  · replace hf := it_f hf c_1
    clear c_1
    refine lv_iload_n hx hb dJ2_dec_7 rfl (lv_at hl 1 rfl) ?_
    refine lv_iconst (v := 1) hx hb dJ2_dec_8 (by decide) ?_
    refine lv_isub hx hb dJ2_dec_9 ?_
    refine lv_topi (fun v_2 e_ => ?_)
    replace hf := nm_some hf v_2 e_
    clear e_
    refine lv_istore_n (lv' := [(0, .int v_2), (1, .int p1)]) hx hb dJ2_dec_10 rfl hl (by decide) rfl (fun ls hl => ?_)
    refine lv_iload_n hx hb dJ2_dec_11 rfl (lv_at hl 0 rfl) ?_
    exact hret _ _ _ hf dJ2_dec_12
def fJ2_elementAt (K : Nat) (p1 : Int32) (μ : Int32 × Int32 × (Nat → Option Nat)) : Option Nat :=
  ga (ix p1 17) <|
  b1 (μ.2.2 p1.toNatClampNeg) fun q_2 =>
  some q_2
set_option maxHeartbeats 4000000 in
set_option maxRecDepth 100000 in
theorem tJ2_elementAt (l : Launch) (D : va_G) (d : Nat → ClassId) (z : ZT) (o ea : Nat) (es : va_W) (K : Nat) (p1 : Int32) (μ : Int32 × Int32 × (Nat → Option Nat)) (r : Nat) (hf : fJ2_elementAt K p1 μ = some r) : CRS l yJ2_elementAt (ws_ yJ2_elementAt cJ2_elementAt 2 (Option.some (Jvm.ClassFile.FieldType.object "java/lang/Object"))) (rmc 0 0 0 0) D d z [.ref ea, .int p1] (ADP d o ea μ ++ es) (fun _ : Unit => r) (fun _ => ADP d o ea μ ++ es) (fun _ => True) := by
  refine CRS.of (own := RJ2) rfl (by decide) (Nat.le_of_ble_eq_true rfl) (Or.inl ⟨_, rfl⟩) ?_
  intro p e s m args below meth c A Q ls S hin hK hP hD hZ hS hA hl hret0
  have hret : ∀ (x : Nat) (H : Heap) (locs : List Loc) (pc : Nat) (ls' : Array Slot), some x = some r → decode cJ2_elementAt pc = .ok (.areturn, 1) → va_P D CL (ADP d o ea μ ++ es) H → va_D A (ADP d o ea μ ++ es) → va_S A s.heap H locs → W p l e (rmc 0 0 0 0) s m args below meth c H locs 0 0 Q (F0 m pc ls' [.ref x]) := by
    intro x H locs pc ls' h9 hdg hP hD hS
    obtain rfl := so_1 h9
    exact hret0 () trivial H locs pc ls' hdg hP hD hS
  have hx := S.1
  have hb := S.2.1
  have hts := S.2.2.2.2
  have hl : lv_has ls 2 [(0, .ref ea), (1, .int p1)] := hl
  unfold fJ2_elementAt at hf
  refine lv_aload_n hx hb dJ2_elementAt_0 rfl (lv_at hl 0 rfl) ?_
  refine lv_iload_n hx hb dJ2_elementAt_1 rfl (lv_at hl 1 rfl) ?_
  obtain ⟨g_1, hf⟩ := ga_some hf
  obtain ⟨q_2, hq_2, hf⟩ := b1_some hf
  refine g_aald hx hb hK hP 1 4 rfl rfl (ix_in g_1) dJ2_elementAt_2 ?_
  rw [hq_2]
  refine W.widen (k := 0) (n := 0) (Nat.le_of_ble_eq_true rfl) (Nat.le_of_ble_eq_true rfl) ?_
  exact hret _ _ _ _ _ hf dJ2_elementAt_3 hP hD hS
def fJ2_size (K : Nat) (μ : Int32 × Int32 × (Nat → Option Nat)) : Option Int32 :=
  b1 (fJ2_sub K μ.2.1 μ.1 (17 : Int32)) fun r_1 =>
  some r_1
set_option maxHeartbeats 4000000 in
set_option maxRecDepth 100000 in
theorem tJ2_size (l : Launch) (D : va_G) (d : Nat → ClassId) (z : ZT) (o ea : Nat) (es : va_W) (K : Nat) (μ : Int32 × Int32 × (Nat → Option Nat)) (r : Int32) (hf : fJ2_size K μ = some r) : CI l yJ2_size (ws_ yJ2_size cJ2_size 1 (Option.some Jvm.ClassFile.FieldType.int)) (rmc 1 0 0 22) D d z [.ref o] (ADP d o ea μ ++ es) r (ADP d o ea μ ++ es) := by
  refine CI.of2 (own := RJ2) rfl (by decide) (Nat.le_of_ble_eq_true rfl) rfl ?_
  intro p e s m args below meth c A Q ls S hin hK hP hD hZ hS hA hl hret0
  have hret : ∀ (x : Int32) (H : Heap) (locs : List Loc) (pc : Nat) (ls' : Array Slot), some x = some r → decode cJ2_size pc = .ok (.ireturn, 1) → va_P D CL (ADP d o ea μ ++ es) H → va_D A (ADP d o ea μ ++ es) → va_S A s.heap H locs → W p l e (rmc 1 0 0 22) s m args below meth c H locs 0 0 Q (F0 m pc ls' [.int x]) := by
    intro x H locs pc ls' h9 hdg hP hD hS
    obtain rfl := so_1 h9
    exact hret0 H locs pc ls' hdg hP hD hS
  have hx := S.1
  have hb := S.2.1
  have hts := S.2.2.2.2
  have hl : lv_has ls 1 [(0, .ref o)] := hl
  unfold fJ2_size at hf
  refine lv_aload_n hx hb dJ2_size_0 rfl (lv_at hl 0 rfl) ?_
  refine g_get hx hb hts S.2.2.2.1 hK hP in_J2 0 rfl rfl 2 (by decide) q269 (fun _ h9 => h9) (v := .int μ.2.1) rfl dJ2_size_1 ?_
  refine lv_aload_n hx hb dJ2_size_4 rfl (lv_at hl 0 rfl) ?_
  refine g_get hx hb hts S.2.2.2.1 hK hP in_J2 0 rfl rfl 1 (by decide) q268 (fun _ h9 => h9) (v := .int μ.1) rfl dJ2_size_5 ?_
  refine lv_aload_n hx hb dJ2_size_8 rfl (lv_at hl 0 rfl) ?_
  refine g_get hx hb hts S.2.2.2.1 hK hP in_J2 0 rfl rfl 0 (by decide) q267 (fun _ h9 => h9) (v := .ref ea) rfl dJ2_size_9 ?_
  refine g_len hx hb hK hP 1 4 rfl rfl (v := 17) rfl dJ2_size_12 ?_
  obtain ⟨r_1, h_2, hf⟩ := b1_some hf
  refine si_call S (tJ2_sub l K μ.2.1 μ.1 (17 : Int32) _ h_2) (va_cwS 3 hts (lw_S q907 q908 q100 q909) rfl rfl rfl (by decide +kernel) ⟨(Nat.le_of_ble_eq_true rfl), (Nat.le_of_ble_eq_true rfl)⟩) rfl hl.1 rfl (Nat.le_of_ble_eq_true rfl) ⟨(Nat.le_of_ble_eq_true rfl), (Nat.le_of_ble_eq_true rfl)⟩ dJ2_size_13 ?_
  clear h_2
  refine W.widen (k := 0) (n := 0) (Nat.le_of_ble_eq_true rfl) (Nat.le_of_ble_eq_true rfl) ?_
  exact hret _ _ _ _ _ hf dJ2_size_16 hP hD hS
def fJ2_isEmpty (K : Nat) (μ : Int32 × Int32 × (Nat → Option Nat)) : Option Bool :=
  if μ.1 = μ.2.1 then
    some true
  else
    some false
set_option maxHeartbeats 4000000 in
set_option maxRecDepth 100000 in
theorem tJ2_isEmpty (l : Launch) (D : va_G) (d : Nat → ClassId) (z : ZT) (o ea : Nat) (es : va_W) (K : Nat) (μ : Int32 × Int32 × (Nat → Option Nat)) (r : Bool) (hf : fJ2_isEmpty K μ = some r) : CI l yJ2_isEmpty (ws_ yJ2_isEmpty cJ2_isEmpty 1 (Option.some Jvm.ClassFile.FieldType.boolean)) (rmc 0 0 0 0) D d z [.ref o] (ADP d o ea μ ++ es) (bi r) (ADP d o ea μ ++ es) := by
  refine CI.of2 (own := RJ2) rfl (by decide) (Nat.le_of_ble_eq_true rfl) (bi_nar r) ?_
  intro p e s m args below meth c A Q ls S hin hK hP hD hZ hS hA hl hret0
  have hret : ∀ (x : Bool) (H : Heap) (locs : List Loc) (pc : Nat) (ls' : Array Slot), some x = some r → decode cJ2_isEmpty pc = .ok (.ireturn, 1) → va_P D CL (ADP d o ea μ ++ es) H → va_D A (ADP d o ea μ ++ es) → va_S A s.heap H locs → W p l e (rmc 0 0 0 0) s m args below meth c H locs 0 0 Q (F0 m pc ls' [.int (bi x)]) := by
    intro x H locs pc ls' h9 hdg hP hD hS
    obtain rfl := so_1 h9
    exact hret0 H locs pc ls' hdg hP hD hS
  have hx := S.1
  have hb := S.2.1
  have hts := S.2.2.2.2
  have hl : lv_has ls 1 [(0, .ref o)] := hl
  unfold fJ2_isEmpty at hf
  refine lv_aload_n hx hb dJ2_isEmpty_0 rfl (lv_at hl 0 rfl) ?_
  refine g_get hx hb hts S.2.2.2.1 hK hP in_J2 0 rfl rfl 1 (by decide) q268 (fun _ h9 => h9) (v := .int μ.1) rfl dJ2_isEmpty_1 ?_
  refine lv_aload_n hx hb dJ2_isEmpty_4 rfl (lv_at hl 0 rfl) ?_
  refine g_get hx hb hts S.2.2.2.1 hK hP in_J2 0 rfl rfl 2 (by decide) q269 (fun _ h9 => h9) (v := .int μ.2.1) rfl dJ2_isEmpty_5 ?_
  refine lv_icmp_ne (tgt := 15) hx hb dJ2_isEmpty_8 (by decide) (fun c_1 => ?_) (fun c_1 => ?_)
  · replace hf := it_f hf c_1
    clear c_1
    refine lv_iconst (v := 0) hx hb dJ2_isEmpty_15 (by decide) ?_
    refine W.widen (k := 0) (n := 0) (Nat.le_of_ble_eq_true rfl) (Nat.le_of_ble_eq_true rfl) ?_
    exact hret _ _ _ _ _ hf dJ2_isEmpty_16 hP hD hS
  · replace hf := it_t hf c_1
    clear c_1
    refine lv_iconst (v := 1) hx hb dJ2_isEmpty_11 (by decide) ?_
    refine lv_goto (tgt := 16) hx hb dJ2_isEmpty_12 (by decide) ?_
    refine W.widen (k := 0) (n := 0) (Nat.le_of_ble_eq_true rfl) (Nat.le_of_ble_eq_true rfl) ?_
    exact hret _ _ _ _ _ hf dJ2_isEmpty_16 hP hD hS
def fJ2_pollFirst (K : Nat) (μ : Int32 × Int32 × (Nat → Option Nat)) : Option (Nat × Int32 × Int32 × (Nat → Option Nat)) :=
  b1 (fJ2_elementAt K μ.1 μ) fun r_2 =>
  ga (ix μ.1 17) <|
  b1 (fJ2_inc K μ.1 (17 : Int32)) fun r_4 =>
  some (r_2, (r_4, μ.2.1, va_up μ.2.2 μ.1.toNatClampNeg none))
set_option maxHeartbeats 4000000 in
set_option maxRecDepth 100000 in
theorem tJ2_pollFirst (l : Launch) (D : va_G) (d : Nat → ClassId) (z : ZT) (o ea : Nat) (es : va_W) (K : Nat) (μ : Int32 × Int32 × (Nat → Option Nat)) (r : Nat) (μ' : Int32 × Int32 × (Nat → Option Nat)) (hf : fJ2_pollFirst K μ = some (r, μ')) : CRS l yJ2_pollFirst (ws_ yJ2_pollFirst cJ2_pollFirst 4 (Option.some (Jvm.ClassFile.FieldType.object "java/lang/Object"))) (rmc 1 0 0 21) D d z [.ref o] (ADP d o ea μ ++ es) (fun _ : Unit => r) (fun _ => ADP d o ea μ' ++ es) (fun _ => True) := by
  refine CRS.of (own := RJ2) rfl (by decide) (Nat.le_of_ble_eq_true rfl) (Or.inl ⟨_, rfl⟩) ?_
  intro p e s m args below meth c A Q ls S hin hK hP hD hZ hS hA hl hret0
  have hret : ∀ (x : Nat) (μx : Int32 × Int32 × (Nat → Option Nat)) (H : Heap) (locs : List Loc) (pc : Nat) (ls' : Array Slot), some (x, μx) = some (r, μ') → decode cJ2_pollFirst pc = .ok (.areturn, 1) → va_P D CL (ADP d o ea μx ++ es) H → va_D A (ADP d o ea μx ++ es) → va_S A s.heap H locs → W p l e (rmc 1 0 0 21) s m args below meth c H locs 0 0 Q (F0 m pc ls' [.ref x]) := by
    intro x μx H locs pc ls' h9 hdg hP hD hS
    obtain ⟨rfl, rfl⟩ := so_2 h9
    exact hret0 () trivial H locs pc ls' hdg hP hD hS
  have hx := S.1
  have hb := S.2.1
  have hts := S.2.2.2.2
  have hl : lv_has ls 4 [(0, .ref o)] := hl
  unfold fJ2_pollFirst at hf
  refine lv_aload_n hx hb dJ2_pollFirst_0 rfl (lv_at hl 0 rfl) ?_
  refine g_get hx hb hts S.2.2.2.1 hK hP in_J2 0 rfl rfl 0 (by decide) q267 (fun _ h9 => h9) (v := .ref ea) rfl dJ2_pollFirst_1 ?_
  refine lv_dup hx hb dJ2_pollFirst_4 rfl ?_
  refine lv_astore_n (lv' := [(1, .ref ea), (0, .ref o)]) hx hb dJ2_pollFirst_5 rfl hl (by decide) rfl (fun ls hl => ?_)
  refine lv_aload_n hx hb dJ2_pollFirst_6 rfl (lv_at hl 1 rfl) ?_
  refine g_get hx hb hts S.2.2.2.1 hK hP in_J2 0 rfl rfl 1 (by decide) q268 (fun _ h9 => h9) (v := .int μ.1) rfl dJ2_pollFirst_7 ?_
  refine lv_dup hx hb dJ2_pollFirst_10 rfl ?_
  refine lv_istore_n (lv' := [(2, .int μ.1), (1, .ref ea), (0, .ref o)]) hx hb dJ2_pollFirst_11 rfl hl (by decide) rfl (fun ls hl => ?_)
  obtain ⟨r_2, h_1, hf⟩ := b1_some hf
  refine runW_rS (va_runS (As := [.ref ea, .int μ.1]) (rest := []) S (tJ2_elementAt l D d z o ea es K μ.1 μ r_2 h_1 _) (va_cwS 2 hts (lw_S q918 q919 q100 q920) rfl rfl rfl (by decide +kernel) ⟨(Nat.le_of_ble_eq_true rfl), (Nat.le_of_ble_eq_true rfl)⟩) ⟨Pw.blind, fun U hU hW => Pw.at hK hP hD hZ hS hA hU hW⟩ rfl rfl hl.1 rfl (lv_room (Nat.le_of_ble_eq_true rfl)) dJ2_pollFirst_12 ⟨(Nat.le_of_ble_eq_true rfl), (Nat.le_of_ble_eq_true rfl)⟩) hP hD hS hA ?_
  clear hP hD hS
  intro _ _ H locs hP hD hS
  clear h_1
  refine lv_astore_n (lv' := [(3, .ref r_2), (2, .int μ.1), (1, .ref ea), (0, .ref o)]) hx hb dJ2_pollFirst_15 rfl hl (by decide) rfl (fun ls hl => ?_)
  refine lv_aload_n hx hb dJ2_pollFirst_16 rfl (lv_at hl 0 rfl) ?_
  refine lv_ifnull hx hb dJ2_pollFirst_17 ?_
  refine lv_aload_n hx hb dJ2_pollFirst_20 rfl (lv_at hl 2 rfl) ?_
  refine lv_iload_n hx hb dJ2_pollFirst_21 rfl (lv_at hl 1 rfl) ?_
  refine lv_null hx hb dJ2_pollFirst_22 ?_
  obtain ⟨g_3, hf⟩ := ga_some hf
  refine g_aastN hx hb hK hP hD hS 1 rfl (ix_in g_3) (w' := ADP d o ea (μ.1, μ.2.1, va_up μ.2.2 μ.1.toNatClampNeg none) ++ es) rfl dJ2_pollFirst_23 ?_
  clear hP hD hS
  intro H locs hP hD hS
  refine lv_aload_n hx hb dJ2_pollFirst_24 rfl (lv_at hl 3 rfl) ?_
  refine lv_iload_n hx hb dJ2_pollFirst_25 rfl (lv_at hl 1 rfl) ?_
  refine lv_aload_n hx hb dJ2_pollFirst_26 rfl (lv_at hl 2 rfl) ?_
  refine g_len hx hb hK hP 1 4 rfl rfl (v := 17) rfl dJ2_pollFirst_27 ?_
  obtain ⟨r_4, h_5, hf⟩ := b1_some hf
  refine si_call S (tJ2_inc l K μ.1 (17 : Int32) _ h_5) (va_cwS 2 hts (lw_S q921 q922 q100 q923) rfl rfl rfl (by decide +kernel) ⟨(Nat.le_of_ble_eq_true rfl), (Nat.le_of_ble_eq_true rfl)⟩) rfl hl.1 rfl (Nat.le_of_ble_eq_true rfl) ⟨(Nat.le_of_ble_eq_true rfl), (Nat.le_of_ble_eq_true rfl)⟩ dJ2_pollFirst_28 ?_
  clear h_5
  refine g_put hx hb hts S.2.2.2.1 hK hP hD hS in_J2 tyJ2 tyJ2_ok nmJ2 0 rfl rfl 1 (by decide) q268 (fun _ h9 => h9) rfl (v := .int r_4) rfl rfl rfl (Nat.le_of_ble_eq_true rfl) (w' := ADP d o ea (r_4, μ.2.1, va_up μ.2.2 μ.1.toNatClampNeg none) ++ es) rfl dJ2_pollFirst_31 ?_
  clear hP hD hS
  intro H locs hP hD hS
  refine lv_aload_n hx hb dJ2_pollFirst_34 rfl (lv_at hl 0 rfl) ?_
  refine W.widen (k := 0) (n := 0) (Nat.le_of_ble_eq_true rfl) (Nat.le_of_ble_eq_true rfl) ?_
  exact hret _ _ _ _ _ _ hf dJ2_pollFirst_35 hP hD hS
def fJ2_removeFirst (K : Nat) (μ : Int32 × Int32 × (Nat → Option Nat)) : Option (Nat × Int32 × Int32 × (Nat → Option Nat)) :=
  b2 (fJ2_pollFirst K μ) fun r_2 ξ_3 =>
  some (r_2, ξ_3)
set_option maxHeartbeats 4000000 in
set_option maxRecDepth 100000 in
theorem tJ2_removeFirst (l : Launch) (D : va_G) (d : Nat → ClassId) (z : ZT) (o ea : Nat) (es : va_W) (K : Nat) (μ : Int32 × Int32 × (Nat → Option Nat)) (r : Nat) (μ' : Int32 × Int32 × (Nat → Option Nat)) (hf : fJ2_removeFirst K μ = some (r, μ')) : CRS l yJ2_removeFirst (ws_ yJ2_removeFirst cJ2_removeFirst 2 (Option.some (Jvm.ClassFile.FieldType.object "java/lang/Object"))) (rmc 2 0 0 44) D d z [.ref o] (ADP d o ea μ ++ es) (fun _ : Unit => r) (fun _ => ADP d o ea μ' ++ es) (fun _ => True) := by
  refine CRS.of (own := RJ2) rfl (by decide) (Nat.le_of_ble_eq_true rfl) (Or.inl ⟨_, rfl⟩) ?_
  intro p e s m args below meth c A Q ls S hin hK hP hD hZ hS hA hl hret0
  have hret : ∀ (x : Nat) (μx : Int32 × Int32 × (Nat → Option Nat)) (H : Heap) (locs : List Loc) (pc : Nat) (ls' : Array Slot), some (x, μx) = some (r, μ') → decode cJ2_removeFirst pc = .ok (.areturn, 1) → va_P D CL (ADP d o ea μx ++ es) H → va_D A (ADP d o ea μx ++ es) → va_S A s.heap H locs → W p l e (rmc 2 0 0 44) s m args below meth c H locs 0 0 Q (F0 m pc ls' [.ref x]) := by
    intro x μx H locs pc ls' h9 hdg hP hD hS
    obtain ⟨rfl, rfl⟩ := so_2 h9
    exact hret0 () trivial H locs pc ls' hdg hP hD hS
  have hx := S.1
  have hb := S.2.1
  have hts := S.2.2.2.2
  have hl : lv_has ls 2 [(0, .ref o)] := hl
  unfold fJ2_removeFirst at hf
  refine lv_aload_n hx hb dJ2_removeFirst_0 rfl (lv_at hl 0 rfl) ?_
  obtain ⟨r_2, ξ_3, h_1, hf⟩ := b2_some hf
  refine runW_rS (va_runV (As := []) (rest := []) S (tJ2_pollFirst l D d z o ea es K μ r_2 ξ_3 h_1 _) (cwV 0 hts (lw_V q914 q915 q916 q100 q917) rfl rfl rfl (by decide +kernel) ⟨(Nat.le_of_ble_eq_true rfl), (Nat.le_of_ble_eq_true rfl)⟩) ⟨Pw.blind, (va_recv hK.1 hP (ci := 17) (q0 := 0) rfl rfl), fun U hU hW => Pw.at hK hP hD hZ hS hA hU hW⟩ rfl rfl hl.1 rfl (lv_room (Nat.le_of_ble_eq_true rfl)) dJ2_removeFirst_1 ⟨(Nat.le_of_ble_eq_true rfl), (Nat.le_of_ble_eq_true rfl)⟩) hP hD hS hA ?_
  clear hP hD hS
  intro _ _ H locs hP hD hS
  clear h_1
  refine lv_astore_n (lv' := [(1, .ref r_2), (0, .ref o)]) hx hb dJ2_removeFirst_4 rfl hl (by decide) rfl (fun ls hl => ?_)
  refine lv_aload_n hx hb dJ2_removeFirst_5 rfl (lv_at hl 0 rfl) ?_
  refine lv_ifnonnull (tgt := 17) hx hb dJ2_removeFirst_6 (by decide) ?_
  refine lv_aload_n hx hb dJ2_removeFirst_17 rfl (lv_at hl 0 rfl) ?_
  refine W.widen (k := 0) (n := 0) (Nat.le_of_ble_eq_true rfl) (Nat.le_of_ble_eq_true rfl) ?_
  exact hret _ _ _ _ _ _ hf dJ2_removeFirst_18 hP hD hS
def fJ2_pollLast (K : Nat) (μ : Int32 × Int32 × (Nat → Option Nat)) : Option (Nat × Int32 × Int32 × (Nat → Option Nat)) :=
  b1 (fJ2_dec K μ.2.1 (17 : Int32)) fun r_1 =>
  b1 (fJ2_elementAt K r_1 μ) fun r_4 =>
  ga (ix r_1 17) <|
  some (r_4, (μ.1, r_1, va_up μ.2.2 r_1.toNatClampNeg none))
set_option maxHeartbeats 4000000 in
set_option maxRecDepth 100000 in
theorem tJ2_pollLast (l : Launch) (D : va_G) (d : Nat → ClassId) (z : ZT) (o ea : Nat) (es : va_W) (K : Nat) (μ : Int32 × Int32 × (Nat → Option Nat)) (r : Nat) (μ' : Int32 × Int32 × (Nat → Option Nat)) (hf : fJ2_pollLast K μ = some (r, μ')) : CRS l yJ2_pollLast (ws_ yJ2_pollLast cJ2_pollLast 4 (Option.some (Jvm.ClassFile.FieldType.object "java/lang/Object"))) (rmc 1 0 0 21) D d z [.ref o] (ADP d o ea μ ++ es) (fun _ : Unit => r) (fun _ => ADP d o ea μ' ++ es) (fun _ => True) := by
  refine CRS.of (own := RJ2) rfl (by decide) (Nat.le_of_ble_eq_true rfl) (Or.inl ⟨_, rfl⟩) ?_
  intro p e s m args below meth c A Q ls S hin hK hP hD hZ hS hA hl hret0
  have hret : ∀ (x : Nat) (μx : Int32 × Int32 × (Nat → Option Nat)) (H : Heap) (locs : List Loc) (pc : Nat) (ls' : Array Slot), some (x, μx) = some (r, μ') → decode cJ2_pollLast pc = .ok (.areturn, 1) → va_P D CL (ADP d o ea μx ++ es) H → va_D A (ADP d o ea μx ++ es) → va_S A s.heap H locs → W p l e (rmc 1 0 0 21) s m args below meth c H locs 0 0 Q (F0 m pc ls' [.ref x]) := by
    intro x μx H locs pc ls' h9 hdg hP hD hS
    obtain ⟨rfl, rfl⟩ := so_2 h9
    exact hret0 () trivial H locs pc ls' hdg hP hD hS
  have hx := S.1
  have hb := S.2.1
  have hts := S.2.2.2.2
  have hl : lv_has ls 4 [(0, .ref o)] := hl
  unfold fJ2_pollLast at hf
  refine lv_aload_n hx hb dJ2_pollLast_0 rfl (lv_at hl 0 rfl) ?_
  refine g_get hx hb hts S.2.2.2.1 hK hP in_J2 0 rfl rfl 0 (by decide) q267 (fun _ h9 => h9) (v := .ref ea) rfl dJ2_pollLast_1 ?_
  refine lv_dup hx hb dJ2_pollLast_4 rfl ?_
  refine lv_astore_n (lv' := [(1, .ref ea), (0, .ref o)]) hx hb dJ2_pollLast_5 rfl hl (by decide) rfl (fun ls hl => ?_)
  refine lv_aload_n hx hb dJ2_pollLast_6 rfl (lv_at hl 1 rfl) ?_
  refine g_get hx hb hts S.2.2.2.1 hK hP in_J2 0 rfl rfl 2 (by decide) q269 (fun _ h9 => h9) (v := .int μ.2.1) rfl dJ2_pollLast_7 ?_
  refine lv_aload_n hx hb dJ2_pollLast_10 rfl (lv_at hl 0 rfl) ?_
  refine g_len hx hb hK hP 1 4 rfl rfl (v := 17) rfl dJ2_pollLast_11 ?_
  obtain ⟨r_1, h_2, hf⟩ := b1_some hf
  refine si_call S (tJ2_dec l K μ.2.1 (17 : Int32) _ h_2) (va_cwS 2 hts (lw_S q1591 q1592 q100 q1593) rfl rfl rfl (by decide +kernel) ⟨(Nat.le_of_ble_eq_true rfl), (Nat.le_of_ble_eq_true rfl)⟩) rfl hl.1 rfl (Nat.le_of_ble_eq_true rfl) ⟨(Nat.le_of_ble_eq_true rfl), (Nat.le_of_ble_eq_true rfl)⟩ dJ2_pollLast_12 ?_
  clear h_2
  refine lv_dup hx hb dJ2_pollLast_15 rfl ?_
  refine lv_istore_n (lv' := [(2, .int r_1), (1, .ref ea), (0, .ref o)]) hx hb dJ2_pollLast_16 rfl hl (by decide) rfl (fun ls hl => ?_)
  obtain ⟨r_4, h_3, hf⟩ := b1_some hf
  refine runW_rS (va_runS (As := [.ref ea, .int r_1]) (rest := []) S (tJ2_elementAt l D d z o ea es K r_1 μ r_4 h_3 _) (va_cwS 2 hts (lw_S q918 q919 q100 q920) rfl rfl rfl (by decide +kernel) ⟨(Nat.le_of_ble_eq_true rfl), (Nat.le_of_ble_eq_true rfl)⟩) ⟨Pw.blind, fun U hU hW => Pw.at hK hP hD hZ hS hA hU hW⟩ rfl rfl hl.1 rfl (lv_room (Nat.le_of_ble_eq_true rfl)) dJ2_pollLast_17 ⟨(Nat.le_of_ble_eq_true rfl), (Nat.le_of_ble_eq_true rfl)⟩) hP hD hS hA ?_
  clear hP hD hS
  intro _ _ H locs hP hD hS
  clear h_3
  refine lv_astore_n (lv' := [(3, .ref r_4), (2, .int r_1), (1, .ref ea), (0, .ref o)]) hx hb dJ2_pollLast_20 rfl hl (by decide) rfl (fun ls hl => ?_)
  refine lv_aload_n hx hb dJ2_pollLast_21 rfl (lv_at hl 0 rfl) ?_
  refine lv_ifnull hx hb dJ2_pollLast_22 ?_
  refine lv_aload_n hx hb dJ2_pollLast_25 rfl (lv_at hl 2 rfl) ?_
  refine lv_aload_n hx hb dJ2_pollLast_26 rfl (lv_at hl 3 rfl) ?_
  refine lv_iload_n hx hb dJ2_pollLast_27 rfl (lv_at hl 1 rfl) ?_
  refine lv_dup_x1 hx hb dJ2_pollLast_28 rfl rfl ?_
  refine g_put hx hb hts S.2.2.2.1 hK hP hD hS in_J2 tyJ2 tyJ2_ok nmJ2 0 rfl rfl 2 (by decide) q269 (fun _ h9 => h9) rfl (v := .int r_1) rfl rfl rfl (Nat.le_of_ble_eq_true rfl) (w' := ADP d o ea (μ.1, r_1, μ.2.2) ++ es) rfl dJ2_pollLast_29 ?_
  clear hP hD hS
  intro H locs hP hD hS
  refine lv_null hx hb dJ2_pollLast_32 ?_
  obtain ⟨g_5, hf⟩ := ga_some hf
  refine g_aastN hx hb hK hP hD hS 1 rfl (ix_in g_5) (w' := ADP d o ea (μ.1, r_1, va_up μ.2.2 r_1.toNatClampNeg none) ++ es) rfl dJ2_pollLast_33 ?_
  clear hP hD hS
  intro H locs hP hD hS
  refine lv_aload_n hx hb dJ2_pollLast_34 rfl (lv_at hl 0 rfl) ?_
  refine W.widen (k := 0) (n := 0) (Nat.le_of_ble_eq_true rfl) (Nat.le_of_ble_eq_true rfl) ?_
  exact hret _ _ _ _ _ _ hf dJ2_pollLast_35 hP hD hS
def fJ2_removeLast (K : Nat) (μ : Int32 × Int32 × (Nat → Option Nat)) : Option (Nat × Int32 × Int32 × (Nat → Option Nat)) :=
  b2 (fJ2_pollLast K μ) fun r_2 ξ_3 =>
  some (r_2, ξ_3)
set_option maxHeartbeats 4000000 in
set_option maxRecDepth 100000 in
theorem tJ2_removeLast (l : Launch) (D : va_G) (d : Nat → ClassId) (z : ZT) (o ea : Nat) (es : va_W) (K : Nat) (μ : Int32 × Int32 × (Nat → Option Nat)) (r : Nat) (μ' : Int32 × Int32 × (Nat → Option Nat)) (hf : fJ2_removeLast K μ = some (r, μ')) : CRS l yJ2_removeLast (ws_ yJ2_removeLast cJ2_removeLast 2 (Option.some (Jvm.ClassFile.FieldType.object "java/lang/Object"))) (rmc 2 0 0 44) D d z [.ref o] (ADP d o ea μ ++ es) (fun _ : Unit => r) (fun _ => ADP d o ea μ' ++ es) (fun _ => True) := by
  refine CRS.of (own := RJ2) rfl (by decide) (Nat.le_of_ble_eq_true rfl) (Or.inl ⟨_, rfl⟩) ?_
  intro p e s m args below meth c A Q ls S hin hK hP hD hZ hS hA hl hret0
  have hret : ∀ (x : Nat) (μx : Int32 × Int32 × (Nat → Option Nat)) (H : Heap) (locs : List Loc) (pc : Nat) (ls' : Array Slot), some (x, μx) = some (r, μ') → decode cJ2_removeLast pc = .ok (.areturn, 1) → va_P D CL (ADP d o ea μx ++ es) H → va_D A (ADP d o ea μx ++ es) → va_S A s.heap H locs → W p l e (rmc 2 0 0 44) s m args below meth c H locs 0 0 Q (F0 m pc ls' [.ref x]) := by
    intro x μx H locs pc ls' h9 hdg hP hD hS
    obtain ⟨rfl, rfl⟩ := so_2 h9
    exact hret0 () trivial H locs pc ls' hdg hP hD hS
  have hx := S.1
  have hb := S.2.1
  have hts := S.2.2.2.2
  have hl : lv_has ls 2 [(0, .ref o)] := hl
  unfold fJ2_removeLast at hf
  refine lv_aload_n hx hb dJ2_removeLast_0 rfl (lv_at hl 0 rfl) ?_
  obtain ⟨r_2, ξ_3, h_1, hf⟩ := b2_some hf
  refine runW_rS (va_runV (As := []) (rest := []) S (tJ2_pollLast l D d z o ea es K μ r_2 ξ_3 h_1 _) (cwV 0 hts (lw_V q1587 q1588 q1589 q100 q1590) rfl rfl rfl (by decide +kernel) ⟨(Nat.le_of_ble_eq_true rfl), (Nat.le_of_ble_eq_true rfl)⟩) ⟨Pw.blind, (va_recv hK.1 hP (ci := 17) (q0 := 0) rfl rfl), fun U hU hW => Pw.at hK hP hD hZ hS hA hU hW⟩ rfl rfl hl.1 rfl (lv_room (Nat.le_of_ble_eq_true rfl)) dJ2_removeLast_1 ⟨(Nat.le_of_ble_eq_true rfl), (Nat.le_of_ble_eq_true rfl)⟩) hP hD hS hA ?_
  clear hP hD hS
  intro _ _ H locs hP hD hS
  clear h_1
  refine lv_astore_n (lv' := [(1, .ref r_2), (0, .ref o)]) hx hb dJ2_removeLast_4 rfl hl (by decide) rfl (fun ls hl => ?_)
  refine lv_aload_n hx hb dJ2_removeLast_5 rfl (lv_at hl 0 rfl) ?_
  refine lv_ifnonnull (tgt := 17) hx hb dJ2_removeLast_6 (by decide) ?_
  refine lv_aload_n hx hb dJ2_removeLast_17 rfl (lv_at hl 0 rfl) ?_
  refine W.widen (k := 0) (n := 0) (Nat.le_of_ble_eq_true rfl) (Nat.le_of_ble_eq_true rfl) ?_
  exact hret _ _ _ _ _ _ hf dJ2_removeLast_18 hP hD hS
def fJ2_addLast (K : Nat) (o0 : Nat) (μ : Int32 × Int32 × (Nat → Option Nat)) : Option (Int32 × Int32 × (Nat → Option Nat)) :=
  ga (ix μ.2.1 17) <|
  b1 (fJ2_inc K μ.2.1 (17 : Int32)) fun r_2 =>
  if μ.1 = r_2 then
    none
  else
    some (μ.1, r_2, va_up μ.2.2 μ.2.1.toNatClampNeg (some o0))
set_option maxHeartbeats 4000000 in
set_option maxRecDepth 100000 in
theorem tJ2_addLast (l : Launch) (D : va_G) (d : Nat → ClassId) (z : ZT) (o ea : Nat) (es : va_W) (K : Nat) (o0 : Nat) (μ : Int32 × Int32 × (Nat → Option Nat)) (μ' : Int32 × Int32 × (Nat → Option Nat)) (hf : fJ2_addLast K o0 μ = some μ') (he : ∃ fs, (o0, .inr (8, fs)) ∈ es) : CV l yJ2_addLast (ws_ yJ2_addLast cJ2_addLast 3 (Option.none : Option Jvm.ClassFile.FieldType)) (rmc 1 0 0 21) D d z [.ref o, .ref o0] (ADP d o ea μ ++ es) (ADP d o ea μ' ++ es) := by
  refine CV.of2 (own := RJ2) rfl (by decide) (Nat.le_of_ble_eq_true rfl) ?_
  intro p e s m args below meth c A Q ls S hin hK hP hD hZ hS hA hl hret0
  have hret : ∀ (μx : Int32 × Int32 × (Nat → Option Nat)) (H : Heap) (locs : List Loc) (pc : Nat) (ls' : Array Slot), some μx = some μ' → decode cJ2_addLast pc = .ok (.return_, 1) → va_P D CL (ADP d o ea μx ++ es) H → va_D A (ADP d o ea μx ++ es) → va_S A s.heap H locs → W p l e (rmc 1 0 0 21) s m args below meth c H locs 0 0 Q (F0 m pc ls' []) := by
    intro μx H locs pc ls' h9 hdg hP hD hS
    obtain rfl := so_1 h9
    exact hret0 H locs pc ls' hdg hP hD hS
  have hx := S.1
  have hb := S.2.1
  have hts := S.2.2.2.2
  have hl : lv_has ls 3 [(0, .ref o), (1, .ref o0)] := hl
  unfold fJ2_addLast at hf
  refine lv_aload_n hx hb dJ2_addLast_0 rfl (lv_at hl 1 rfl) ?_
  refine lv_ifnonnull (tgt := 12) hx hb dJ2_addLast_1 (by decide) ?_
  refine lv_aload_n hx hb dJ2_addLast_12 rfl (lv_at hl 0 rfl) ?_
  refine g_get hx hb hts S.2.2.2.1 hK hP in_J2 0 rfl rfl 0 (by decide) q267 (fun _ h9 => h9) (v := .ref ea) rfl dJ2_addLast_13 ?_
  refine lv_astore_n (lv' := [(2, .ref ea), (0, .ref o), (1, .ref o0)]) hx hb dJ2_addLast_16 rfl hl (by decide) rfl (fun ls hl => ?_)
  refine lv_aload_n hx hb dJ2_addLast_17 rfl (lv_at hl 0 rfl) ?_
  refine lv_aload_n hx hb dJ2_addLast_18 rfl (lv_at hl 1 rfl) ?_
  refine g_get hx hb hts S.2.2.2.1 hK hP in_J2 0 rfl rfl 2 (by decide) q269 (fun _ h9 => h9) (v := .int μ.2.1) rfl dJ2_addLast_19 ?_
  refine lv_aload_n hx hb dJ2_addLast_22 rfl (lv_at hl 2 rfl) ?_
  obtain ⟨g_1, hf⟩ := ga_some hf
  refine g_aast hx hb hK hP hD hS 1 (ce := 8) rfl q2222 (List.mem_append_right _ he.choose_spec) rfl (ix_in g_1) (w' := ADP d o ea (μ.1, μ.2.1, va_up μ.2.2 μ.2.1.toNatClampNeg (some o0)) ++ es) rfl dJ2_addLast_23 ?_
  clear hP hD hS
  intro H locs hP hD hS
  refine lv_aload_n hx hb dJ2_addLast_24 rfl (lv_at hl 1 rfl) ?_
  refine g_get hx hb hts S.2.2.2.1 hK hP in_J2 0 rfl rfl 1 (by decide) q268 (fun _ h9 => h9) (v := .int μ.1) rfl dJ2_addLast_25 ?_
  refine lv_aload_n hx hb dJ2_addLast_28 rfl (lv_at hl 1 rfl) ?_
  refine lv_aload_n hx hb dJ2_addLast_29 rfl (lv_at hl 1 rfl) ?_
  refine g_get hx hb hts S.2.2.2.1 hK hP in_J2 0 rfl rfl 2 (by decide) q269 (fun _ h9 => h9) (v := .int μ.2.1) rfl dJ2_addLast_30 ?_
  refine lv_aload_n hx hb dJ2_addLast_33 rfl (lv_at hl 0 rfl) ?_
  refine g_len hx hb hK hP 1 4 rfl rfl (v := 17) rfl dJ2_addLast_34 ?_
  obtain ⟨r_2, h_3, hf⟩ := b1_some hf
  refine si_call S (tJ2_inc l K μ.2.1 (17 : Int32) _ h_3) (va_cwS 2 hts (lw_S q921 q922 q100 q923) rfl rfl rfl (by decide +kernel) ⟨(Nat.le_of_ble_eq_true rfl), (Nat.le_of_ble_eq_true rfl)⟩) rfl hl.1 rfl (Nat.le_of_ble_eq_true rfl) ⟨(Nat.le_of_ble_eq_true rfl), (Nat.le_of_ble_eq_true rfl)⟩ dJ2_addLast_35 ?_
  clear h_3
  refine lv_dup_x1 hx hb dJ2_addLast_38 rfl rfl ?_
  refine g_put hx hb hts S.2.2.2.1 hK hP hD hS in_J2 tyJ2 tyJ2_ok nmJ2 0 rfl rfl 2 (by decide) q269 (fun _ h9 => h9) rfl (v := .int r_2) rfl rfl rfl (Nat.le_of_ble_eq_true rfl) (w' := ADP d o ea (μ.1, r_2, va_up μ.2.2 μ.2.1.toNatClampNeg (some o0)) ++ es) rfl dJ2_addLast_39 ?_
  clear hP hD hS
  intro H locs hP hD hS
  refine lv_icmp_ne (tgt := 50) hx hb dJ2_addLast_42 (by decide) (fun c_4 => ?_) (fun c_4 => ?_)
  · replace hf := it_f hf c_4
    clear c_4
    refine W.widen (k := 0) (n := 0) (Nat.le_of_ble_eq_true rfl) (Nat.le_of_ble_eq_true rfl) ?_
    exact hret _ _ _ _ _ hf dJ2_addLast_50 hP hD hS
  · replace hf := it_t hf c_4
    clear c_4
    cases hf
def fJ2_circularClear_L12 (K : Nat) : Nat → Int32 → Int32 → Int32 → (Int32 × Int32 × (Nat → Option Nat)) → Option (Int32 × Int32 × (Nat → Option Nat))
  | 0, _, _, _, _ => none
  | n + 1, x12_1, x12_2, x12_3, μ12 =>
    if x12_3 ≤ x12_1 then
      if x12_3 = x12_2 then
        some μ12
      else
        fJ2_circularClear_L12 K n (0 : Int32) x12_2 x12_2 μ12
    else
      ga (ix x12_1 17) <|
      fJ2_circularClear_L12 K n (x12_1 + (1 : Int32)) x12_2 x12_3 (μ12.1, μ12.2.1, va_up μ12.2.2 x12_1.toNatClampNeg none)
def fJ2_circularClear (K : Nat) (p1 : Int32) (p2 : Int32) (μ : Int32 × Int32 × (Nat → Option Nat)) : Option (Int32 × Int32 × (Nat → Option Nat)) :=
  if p2 < p1 then
    fJ2_circularClear_L12 K K p1 p2 (17 : Int32) μ
  else
    fJ2_circularClear_L12 K K p1 p2 p2 μ
set_option maxHeartbeats 4000000 in
set_option maxRecDepth 100000 in
theorem tJ2_circularClear (l : Launch) (D : va_G) (d : Nat → ClassId) (z : ZT) (o ea : Nat) (es : va_W) (K : Nat) (p1 : Int32) (p2 : Int32) (μ : Int32 × Int32 × (Nat → Option Nat)) (μ' : Int32 × Int32 × (Nat → Option Nat)) (hf : fJ2_circularClear K p1 p2 μ = some μ') : CV l yJ2_circularClear (ws_ yJ2_circularClear cJ2_circularClear 4 (Option.none : Option Jvm.ClassFile.FieldType)) (rmc 0 0 0 0) D d z [.ref ea, .int p1, .int p2] (ADP d o ea μ ++ es) (ADP d o ea μ' ++ es) := by
  refine CV.of2 (own := RJ2) rfl (by decide) (Nat.le_of_ble_eq_true rfl) ?_
  intro p e s m args below meth c A Q ls S hin hK hP hD hZ hS hA hl hret0
  have hret : ∀ (μx : Int32 × Int32 × (Nat → Option Nat)) (H : Heap) (locs : List Loc) (pc : Nat) (ls' : Array Slot), some μx = some μ' → decode cJ2_circularClear pc = .ok (.return_, 1) → va_P D CL (ADP d o ea μx ++ es) H → va_D A (ADP d o ea μx ++ es) → va_S A s.heap H locs → W p l e (rmc 0 0 0 0) s m args below meth c H locs 0 0 Q (F0 m pc ls' []) := by
    intro μx H locs pc ls' h9 hdg hP hD hS
    obtain rfl := so_1 h9
    exact hret0 H locs pc ls' hdg hP hD hS
  have hx := S.1
  have hb := S.2.1
  have hts := S.2.2.2.2
  have hl : lv_has ls 4 [(0, .ref ea), (1, .int p1), (2, .int p2)] := hl
  have L12 : ∀ (n : Nat) (x12_1 : Int32) (x12_2 : Int32) (x12_3 : Int32) (μ12 : Int32 × Int32 × (Nat → Option Nat)) (H : Heap) (locs : List Loc) (ls : Array Slot), fJ2_circularClear_L12 K n x12_1 x12_2 x12_3 μ12 = some μ' → va_P D CL (ADP d o ea μ12 ++ es) H → va_D A (ADP d o ea μ12 ++ es) → va_S A s.heap H locs → lv_has ls 4 [(0, .ref ea), (1, .int x12_1), (2, .int x12_2), (3, .int x12_3)] → W p l e (rmc 0 0 0 0) s m args below meth c H locs 0 0 Q (F0 m 12 ls []) := by
    intro n
    induction n with
    | zero =>
      intro x12_1 x12_2 x12_3 μ12 H locs ls hf hP hD hS hl
      rw [fJ2_circularClear_L12] at hf
      cases hf
    | succ n ih =>
      intro x12_1 x12_2 x12_3 μ12 H locs ls hf hP hD hS hl
      rw [fJ2_circularClear_L12] at hf
      refine lv_iload_n hx hb dJ2_circularClear_12 rfl (lv_at hl 1 rfl) ?_
      refine lv_iload_n hx hb dJ2_circularClear_13 rfl (lv_at hl 3 rfl) ?_
      refine lv_icmp_ge (tgt := 27) hx hb dJ2_circularClear_14 (by decide) (fun c_2 => ?_) (fun c_2 => ?_)
      · replace hf := it_t hf c_2
        clear c_2
        refine lv_iload_n hx hb dJ2_circularClear_27 rfl (lv_at hl 3 rfl) ?_
        refine lv_iload_n hx hb dJ2_circularClear_28 rfl (lv_at hl 2 rfl) ?_
        refine lv_icmp_ne (tgt := 35) hx hb dJ2_circularClear_29 (by decide) (fun c_3 => ?_) (fun c_3 => ?_)
        · replace hf := it_f hf c_3
          clear c_3
          refine lv_iconst (v := 0) hx hb dJ2_circularClear_35 (by decide) ?_
          refine lv_istore_n (lv' := [(1, .int (0 : Int32)), (0, .ref ea), (2, .int x12_2), (3, .int x12_3)]) hx hb dJ2_circularClear_36 rfl hl (by decide) rfl (fun ls hl => ?_)
          refine lv_iload_n hx hb dJ2_circularClear_37 rfl (lv_at hl 2 rfl) ?_
          refine lv_istore_n (lv' := [(3, .int x12_2), (1, .int (0 : Int32)), (0, .ref ea), (2, .int x12_2)]) hx hb dJ2_circularClear_38 rfl hl (by decide) rfl (fun ls hl => ?_)
          refine lv_goto (tgt := 12) hx hb dJ2_circularClear_39 (by decide) ?_
          exact ih (0 : Int32) x12_2 x12_2 μ12 _ _ _ hf hP hD hS (lv_sub hl [2, 1, 3, 0] rfl)
        · replace hf := it_t hf c_3
          clear c_3
          refine lv_goto (tgt := 42) hx hb dJ2_circularClear_32 (by decide) ?_
          refine W.widen (k := 0) (n := 0) (Nat.le_of_ble_eq_true rfl) (Nat.le_of_ble_eq_true rfl) ?_
          exact hret _ _ _ _ _ hf dJ2_circularClear_42 hP hD hS
      · replace hf := it_f hf c_2
        clear c_2
        refine lv_aload_n hx hb dJ2_circularClear_17 rfl (lv_at hl 0 rfl) ?_
        refine lv_iload_n hx hb dJ2_circularClear_18 rfl (lv_at hl 1 rfl) ?_
        refine lv_null hx hb dJ2_circularClear_19 ?_
        obtain ⟨g_4, hf⟩ := ga_some hf
        refine g_aastN hx hb hK hP hD hS 1 rfl (ix_in g_4) (w' := ADP d o ea (μ12.1, μ12.2.1, va_up μ12.2.2 x12_1.toNatClampNeg none) ++ es) rfl dJ2_circularClear_20 ?_
        clear hP hD hS
        intro H locs hP hD hS
        refine lv_iinc (v := x12_1 + (1 : Int32)) (lv' := [(1, .int (x12_1 + (1 : Int32))), (0, .ref ea), (2, .int x12_2), (3, .int x12_3)]) hx hb dJ2_circularClear_21 hl (k := 1) rfl rfl (by decide) rfl (fun ls hl => ?_)
        refine lv_goto (tgt := 12) hx hb dJ2_circularClear_24 (by decide) ?_
        exact ih (x12_1 + (1 : Int32)) x12_2 x12_3 (μ12.1, μ12.2.1, va_up μ12.2.2 x12_1.toNatClampNeg none) _ _ _ hf hP hD hS (lv_sub hl [1, 0, 2, 3] rfl)
  unfold fJ2_circularClear at hf
  refine lv_iload_n hx hb dJ2_circularClear_0 rfl (lv_at hl 1 rfl) ?_
  refine lv_iload_n hx hb dJ2_circularClear_1 rfl (lv_at hl 2 rfl) ?_
  refine lv_icmp_gt (tgt := 9) hx hb dJ2_circularClear_2 (by decide) (fun c_1 => ?_) (fun c_1 => ?_)
  · replace hf := it_t hf c_1
    clear c_1
    refine lv_aload_n hx hb dJ2_circularClear_9 rfl (lv_at hl 0 rfl) ?_
    refine g_len hx hb hK hP 1 4 rfl rfl (v := 17) rfl dJ2_circularClear_10 ?_
    refine lv_istore_n (lv' := [(3, .int (17 : Int32)), (0, .ref ea), (1, .int p1), (2, .int p2)]) hx hb dJ2_circularClear_11 rfl hl (by decide) rfl (fun ls hl => ?_)
    exact L12 K p1 p2 (17 : Int32) μ _ _ _ hf hP hD hS (lv_sub hl [1, 2, 3, 0] rfl)
  · replace hf := it_f hf c_1
    clear c_1
    refine lv_iload_n hx hb dJ2_circularClear_5 rfl (lv_at hl 2 rfl) ?_
    refine lv_goto (tgt := 11) hx hb dJ2_circularClear_6 (by decide) ?_
    refine lv_istore_n (lv' := [(3, .int p2), (0, .ref ea), (1, .int p1), (2, .int p2)]) hx hb dJ2_circularClear_11 rfl hl (by decide) rfl (fun ls hl => ?_)
    exact L12 K p1 p2 p2 μ _ _ _ hf hP hD hS (lv_sub hl [1, 2, 3, 0] rfl)
def fJ2_clear (K : Nat) (μ : Int32 × Int32 × (Nat → Option Nat)) : Option (Int32 × Int32 × (Nat → Option Nat)) :=
  b1 (fJ2_circularClear K μ.1 μ.2.1 μ) fun ξ_2 =>
  some ((0 : Int32), (0 : Int32), ξ_2.2.2)
set_option maxHeartbeats 4000000 in
set_option maxRecDepth 100000 in
theorem tJ2_clear (l : Launch) (D : va_G) (d : Nat → ClassId) (z : ZT) (o ea : Nat) (es : va_W) (K : Nat) (μ : Int32 × Int32 × (Nat → Option Nat)) (μ' : Int32 × Int32 × (Nat → Option Nat)) (hf : fJ2_clear K μ = some μ') : CV l yJ2_clear (ws_ yJ2_clear cJ2_clear 1 (Option.none : Option Jvm.ClassFile.FieldType)) (rmc 1 0 0 23) D d z [.ref o] (ADP d o ea μ ++ es) (ADP d o ea μ' ++ es) := by
  refine CV.of2 (own := RJ2) rfl (by decide) (Nat.le_of_ble_eq_true rfl) ?_
  intro p e s m args below meth c A Q ls S hin hK hP hD hZ hS hA hl hret0
  have hret : ∀ (μx : Int32 × Int32 × (Nat → Option Nat)) (H : Heap) (locs : List Loc) (pc : Nat) (ls' : Array Slot), some μx = some μ' → decode cJ2_clear pc = .ok (.return_, 1) → va_P D CL (ADP d o ea μx ++ es) H → va_D A (ADP d o ea μx ++ es) → va_S A s.heap H locs → W p l e (rmc 1 0 0 23) s m args below meth c H locs 0 0 Q (F0 m pc ls' []) := by
    intro μx H locs pc ls' h9 hdg hP hD hS
    obtain rfl := so_1 h9
    exact hret0 H locs pc ls' hdg hP hD hS
  have hx := S.1
  have hb := S.2.1
  have hts := S.2.2.2.2
  have hl : lv_has ls 1 [(0, .ref o)] := hl
  unfold fJ2_clear at hf
  refine lv_aload_n hx hb dJ2_clear_0 rfl (lv_at hl 0 rfl) ?_
  refine g_get hx hb hts S.2.2.2.1 hK hP in_J2 0 rfl rfl 0 (by decide) q267 (fun _ h9 => h9) (v := .ref ea) rfl dJ2_clear_1 ?_
  refine lv_aload_n hx hb dJ2_clear_4 rfl (lv_at hl 0 rfl) ?_
  refine g_get hx hb hts S.2.2.2.1 hK hP in_J2 0 rfl rfl 1 (by decide) q268 (fun _ h9 => h9) (v := .int μ.1) rfl dJ2_clear_5 ?_
  refine lv_aload_n hx hb dJ2_clear_8 rfl (lv_at hl 0 rfl) ?_
  refine g_get hx hb hts S.2.2.2.1 hK hP in_J2 0 rfl rfl 2 (by decide) q269 (fun _ h9 => h9) (v := .int μ.2.1) rfl dJ2_clear_9 ?_
  obtain ⟨ξ_2, h_1, hf⟩ := b1_some hf
  refine runW_v (va_runS (As := [.ref ea, .int μ.1, .int μ.2.1]) (rest := []) S (tJ2_circularClear l D d z o ea es K μ.1 μ.2.1 μ ξ_2 h_1 _) (va_cwS 3 hts (lw_S q846 q847 q100 q848) rfl rfl rfl (by decide +kernel) ⟨(Nat.le_of_ble_eq_true rfl), (Nat.le_of_ble_eq_true rfl)⟩) ⟨Pw.blind, fun U hU hW => Pw.at hK hP hD hZ hS hA hU hW⟩ rfl rfl hl.1 rfl (lv_room (Nat.le_of_ble_eq_true rfl)) dJ2_clear_12 ⟨(Nat.le_of_ble_eq_true rfl), (Nat.le_of_ble_eq_true rfl)⟩) hP hD hS hA ?_
  clear hP hD hS
  intro H locs hP hD hS
  clear h_1
  refine lv_aload_n hx hb dJ2_clear_15 rfl (lv_at hl 0 rfl) ?_
  refine lv_aload_n hx hb dJ2_clear_16 rfl (lv_at hl 0 rfl) ?_
  refine lv_iconst (v := 0) hx hb dJ2_clear_17 (by decide) ?_
  refine lv_dup_x1 hx hb dJ2_clear_18 rfl rfl ?_
  refine g_put hx hb hts S.2.2.2.1 hK hP hD hS in_J2 tyJ2 tyJ2_ok nmJ2 0 rfl rfl 2 (by decide) q269 (fun _ h9 => h9) rfl (v := .int (0 : Int32)) rfl rfl rfl (Nat.le_of_ble_eq_true rfl) (w' := ADP d o ea (ξ_2.1, (0 : Int32), ξ_2.2.2) ++ es) rfl dJ2_clear_19 ?_
  clear hP hD hS
  intro H locs hP hD hS
  refine g_put hx hb hts S.2.2.2.1 hK hP hD hS in_J2 tyJ2 tyJ2_ok nmJ2 0 rfl rfl 1 (by decide) q268 (fun _ h9 => h9) rfl (v := .int (0 : Int32)) rfl rfl rfl (Nat.le_of_ble_eq_true rfl) (w' := ADP d o ea ((0 : Int32), (0 : Int32), ξ_2.2.2) ++ es) rfl dJ2_clear_22 ?_
  clear hP hD hS
  intro H locs hP hD hS
  refine W.widen (k := 0) (n := 0) (Nat.le_of_ble_eq_true rfl) (Nat.le_of_ble_eq_true rfl) ?_
  exact hret _ _ _ _ _ hf dJ2_clear_25 hP hD hS
