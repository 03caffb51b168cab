/-! what changes the state -/
set_option maxRecDepth 100000
def fX8_touch (K : Nat) (p0 : Int32) (μ : XS) : Option XS :=
  if p0 = 0 then
    some μ
  else
    nm (xI μ 62 (0 : Int32)) fun ξ_2 =>
    nm (xI ξ_2 63 (1 : Int32)) fun ξ_3 =>
    some ξ_3
set_option maxHeartbeats 4000000 in
set_option maxRecDepth 100000 in
theorem tX8_touch (l : Launch) (D : va_G) (d : Nat → ClassId) (z : ZT) (b : Nat → Nat) (fl : Option Nat) (K : Nat) (p0 : Int32) (μ : XS) (μ' : XS) (hf : fX8_touch K p0 μ = some μ') : CV l yX8_touch (ws_ yX8_touch cX8_touch 2 (Option.none : Option Jvm.ClassFile.FieldType)) (rmc 0 0 0 0) D d z [.ref (b 13), .int p0] (XP d z b fl μ) (XP d z b fl μ') := by
  refine CV.of2 (own := RX8) rfl (by decide) (Nat.le_of_ble_eq_true rfl) ?_
  intro p e s m args below meth c A Q ls S hin hK hP hD hZ hS hA hl hret0
  have hret : ∀ (μx : XS) (H : Heap) (locs : List Loc) (pc : Nat) (ls' : Array Slot), some μx = some μ' → decode cX8_touch pc = .ok (.return_, 1) → va_P D CL (XP d z b fl μx) H → va_D A (XP d z b fl μx) → va_S A s.heap H locs → W p l e (rmc 0 0 0 0) s m args below meth c H locs 0 0 Q (F0 m pc ls' []) := by
    intro μx H locs pc ls' h9 hdg hP hD hS
    obtain rfl := so_1 h9
    exact hret0 H locs pc ls' hdg hP hD hS
  have hx := S.1
  have hb := S.2.1
  have hts := S.2.2.2.2
  have hl : lv_has ls 2 [(0, .ref (b 13)), (1, .int p0)] := hl
  unfold fX8_touch at hf
  refine lv_iload_n hx hb dX8_touch_0 rfl (lv_at hl 1 rfl) ?_
  refine lv_if_eq (tgt := 14) hx hb dX8_touch_1 (by decide) (fun c_1 => ?_) (fun c_1 => ?_)
  · replace hf := it_t hf c_1
    clear c_1
    refine W.widen (k := 0) (n := 0) (Nat.le_of_ble_eq_true rfl) (Nat.le_of_ble_eq_true rfl) ?_
    exact hret _ _ _ _ _ hf dX8_touch_14 hP hD hS
  · replace hf := it_f hf c_1
    clear c_1
    refine lv_aload_n hx hb dX8_touch_4 rfl (lv_at hl 0 rfl) ?_
    refine lv_iconst (v := 0) hx hb dX8_touch_5 (by decide) ?_
    obtain ⟨ξ_2, e_ξ_2⟩ : ∃ x, x = xI μ 62 (0 : Int32) := ⟨_, rfl⟩
    refine g_put hx hb hts S.2.2.2.1 hK hP hD hS in_X8 tyX8 tyX8_ok nmX8 13 rfl rfl 2 (by decide) q813 (fun _ h9 => h9) rfl (v := .int (0 : Int32)) rfl rfl rfl (Nat.le_of_ble_eq_true rfl) (w' := XP d z b fl ξ_2) (by subst e_ξ_2; rfl) dX8_touch_6 ?_
    clear hP hD hS
    intro H locs hP hD hS
    replace hf := nm_some hf ξ_2 e_ξ_2
    clear e_ξ_2
    refine lv_aload_n hx hb dX8_touch_9 rfl (lv_at hl 0 rfl) ?_
    refine lv_iconst (v := 1) hx hb dX8_touch_10 (by decide) ?_
    obtain ⟨ξ_3, e_ξ_3⟩ : ∃ x, x = xI ξ_2 63 (1 : Int32) := ⟨_, rfl⟩
    refine g_put hx hb hts S.2.2.2.1 hK hP hD hS in_X8 tyX8 tyX8_ok nmX8 13 rfl rfl 3 (by decide) q815 (fun _ h9 => h9) rfl (v := .int (1 : Int32)) rfl (by decide) (by decide) (Nat.le_of_ble_eq_true rfl) (w' := XP d z b fl ξ_3) (by subst e_ξ_3; rfl) dX8_touch_11 ?_
    clear hP hD hS
    intro H locs hP hD hS
    replace hf := nm_some hf ξ_3 e_ξ_3
    clear e_ξ_3
    refine W.widen (k := 0) (n := 0) (Nat.le_of_ble_eq_true rfl) (Nat.le_of_ble_eq_true rfl) ?_
    exact hret _ _ _ _ _ hf dX8_touch_14 hP hD hS
def fX8_setFrequency_L14 (K : Nat) (t14_0 : Int32) (x14_1 : Int32) (μ14 : XS) : Option XS :=
  b1 (fX8_touch K t14_0 μ14) fun ξ_3 =>
  nm (xI ξ_3 60 x14_1) fun ξ_4 =>
  some ξ_4
def fX8_setFrequency (K : Nat) (p0 : Int32) (μ : XS) : Option XS :=
  if p0 = (μ.1 60) then
    fX8_setFrequency_L14 K (0 : Int32) p0 μ
  else
    fX8_setFrequency_L14 K (1 : Int32) p0 μ
set_option maxHeartbeats 4000000 in
set_option maxRecDepth 100000 in
theorem tX8_setFrequency (l : Launch) (D : va_G) (d : Nat → ClassId) (z : ZT) (b : Nat → Nat) (fl : Option Nat) (K : Nat) (p0 : Int32) (μ : XS) (μ' : XS) (hf : fX8_setFrequency K p0 μ = some μ') : CV l yX8_setFrequency (ws_ yX8_setFrequency cX8_setFrequency 2 (Option.none : Option Jvm.ClassFile.FieldType)) (rmc 1 0 0 21) D d z [.ref (b 13), .int p0] (XP d z b fl μ) (XP d z b fl μ') := by
  refine CV.of2 (own := RX8) rfl (by decide) (Nat.le_of_ble_eq_true rfl) ?_
  intro p e s m args below meth c A Q ls S hin hK hP hD hZ hS hA hl hret0
  have hret : ∀ (μx : XS) (H : Heap) (locs : List Loc) (pc : Nat) (ls' : Array Slot), some μx = some μ' → decode cX8_setFrequency pc = .ok (.return_, 1) → va_P D CL (XP d z b fl μx) H → va_D A (XP d z b fl μx) → va_S A s.heap H locs → W p l e (rmc 1 0 0 21) s m args below meth c H locs 0 0 Q (F0 m pc ls' []) := by
    intro μx H locs pc ls' h9 hdg hP hD hS
    obtain rfl := so_1 h9
    exact hret0 H locs pc ls' hdg hP hD hS
  have hx := S.1
  have hb := S.2.1
  have hts := S.2.2.2.2
  have hl : lv_has ls 2 [(0, .ref (b 13)), (1, .int p0)] := hl
  have L14 : ∀ (t14_0 : Int32) (x14_1 : Int32) (μ14 : XS) (H : Heap) (locs : List Loc) (ls : Array Slot), fX8_setFrequency_L14 K t14_0 x14_1 μ14 = some μ' → va_P D CL (XP d z b fl μ14) H → va_D A (XP d z b fl μ14) → va_S A s.heap H locs → lv_has ls 2 [(0, .ref (b 13)), (1, .int x14_1)] → W p l e (rmc 1 0 0 21) s m args below meth c H locs 0 0 Q (F0 m 14 ls [.int t14_0, .ref (b 13)]) := by
    intro t14_0 x14_1 μ14 H locs ls hf hP hD hS hl
    unfold fX8_setFrequency_L14 at hf
    obtain ⟨ξ_3, h_2, hf⟩ := b1_some hf
    refine runW_v (va_runV (As := [.int t14_0]) (rest := []) S (tX8_touch l D d z b fl K t14_0 μ14 ξ_3 h_2 _) (cwV 1 hts (lw_V q1027 q1029 qs26 q116 q1030) rfl rfl rfl (by decide +kernel) ⟨(Nat.le_of_ble_eq_true rfl), (Nat.le_of_ble_eq_true rfl)⟩) ⟨Pw.blind, (va_recv hK.1 hP (ci := 8) (q0 := 13) rfl rfl), fun U hU hW => Pw.at hK hP hD hZ hS hA hU hW⟩ rfl rfl hl.1 rfl (lv_room (Nat.le_of_ble_eq_true rfl)) dX8_setFrequency_14 ⟨(Nat.le_of_ble_eq_true rfl), (Nat.le_of_ble_eq_true rfl)⟩) hP hD hS hA ?_
    clear hP hD hS
    intro H locs hP hD hS
    clear h_2
    refine lv_aload_n hx hb dX8_setFrequency_17 rfl (lv_at hl 0 rfl) ?_
    refine lv_iload_n hx hb dX8_setFrequency_18 rfl (lv_at hl 1 rfl) ?_
    obtain ⟨ξ_4, e_ξ_4⟩ : ∃ x, x = xI ξ_3 60 x14_1 := ⟨_, rfl⟩
    refine g_put hx hb hts S.2.2.2.1 hK hP hD hS in_X8 tyX8 tyX8_ok nmX8 13 rfl rfl 0 (by decide) q808 (fun _ h9 => h9) rfl (v := .int x14_1) rfl rfl rfl (Nat.le_of_ble_eq_true rfl) (w' := XP d z b fl ξ_4) (by subst e_ξ_4; rfl) dX8_setFrequency_19 ?_
    clear hP hD hS
    intro H locs hP hD hS
    replace hf := nm_some hf ξ_4 e_ξ_4
    clear e_ξ_4
    refine W.widen (k := 0) (n := 0) (Nat.le_of_ble_eq_true rfl) (Nat.le_of_ble_eq_true rfl) ?_
    exact hret _ _ _ _ _ hf dX8_setFrequency_22 hP hD hS
  unfold fX8_setFrequency at hf
  refine lv_aload_n hx hb dX8_setFrequency_0 rfl (lv_at hl 0 rfl) ?_
  refine lv_iload_n hx hb dX8_setFrequency_1 rfl (lv_at hl 1 rfl) ?_
  refine lv_aload_n hx hb dX8_setFrequency_2 rfl (lv_at hl 0 rfl) ?_
  refine g_get hx hb hts S.2.2.2.1 hK hP in_X8 13 rfl rfl 0 (by decide) q808 (fun _ h9 => h9) (v := .int (μ.1 60)) rfl dX8_setFrequency_3 ?_
  refine lv_icmp_eq (tgt := 13) hx hb dX8_setFrequency_6 (by decide) (fun c_1 => ?_) (fun c_1 => ?_)
  · replace hf := it_t hf c_1
    clear c_1
    refine lv_iconst (v := 0) hx hb dX8_setFrequency_13 (by decide) ?_
    exact L14 (0 : Int32) p0 μ _ _ _ hf hP hD hS (lv_sub hl [0, 1] rfl)
  · replace hf := it_f hf c_1
    clear c_1
    refine lv_iconst (v := 1) hx hb dX8_setFrequency_9 (by decide) ?_
    refine lv_goto (tgt := 14) hx hb dX8_setFrequency_10 (by decide) ?_
    exact L14 (1 : Int32) p0 μ _ _ _ hf hP hD hS (lv_sub hl [0, 1] rfl)
def fX8_setSettings_L14 (K : Nat) (t14_0 : Int32) (x14_1 : Int32) (μ14 : XS) : Option XS :=
  b1 (fX8_touch K t14_0 μ14) fun ξ_3 =>
  nm (xI ξ_3 61 x14_1) fun ξ_4 =>
  some ξ_4
def fX8_setSettings (K : Nat) (p0 : Int32) (μ : XS) : Option XS :=
  if p0 = (μ.1 61) then
    fX8_setSettings_L14 K (0 : Int32) p0 μ
  else
    fX8_setSettings_L14 K (1 : Int32) p0 μ
set_option maxHeartbeats 4000000 in
set_option maxRecDepth 100000 in
theorem tX8_setSettings (l : Launch) (D : va_G) (d : Nat → ClassId) (z : ZT) (b : Nat → Nat) (fl : Option Nat) (K : Nat) (p0 : Int32) (μ : XS) (μ' : XS) (hf : fX8_setSettings K p0 μ = some μ') : CV l yX8_setSettings (ws_ yX8_setSettings cX8_setSettings 2 (Option.none : Option Jvm.ClassFile.FieldType)) (rmc 1 0 0 21) D d z [.ref (b 13), .int p0] (XP d z b fl μ) (XP d z b fl μ') := by
  refine CV.of2 (own := RX8) rfl (by decide) (Nat.le_of_ble_eq_true rfl) ?_
  intro p e s m args below meth c A Q ls S hin hK hP hD hZ hS hA hl hret0
  have hret : ∀ (μx : XS) (H : Heap) (locs : List Loc) (pc : Nat) (ls' : Array Slot), some μx = some μ' → decode cX8_setSettings pc = .ok (.return_, 1) → va_P D CL (XP d z b fl μx) H → va_D A (XP d z b fl μx) → va_S A s.heap H locs → W p l e (rmc 1 0 0 21) s m args below meth c H locs 0 0 Q (F0 m pc ls' []) := by
    intro μx H locs pc ls' h9 hdg hP hD hS
    obtain rfl := so_1 h9
    exact hret0 H locs pc ls' hdg hP hD hS
  have hx := S.1
  have hb := S.2.1
  have hts := S.2.2.2.2
  have hl : lv_has ls 2 [(0, .ref (b 13)), (1, .int p0)] := hl
  have L14 : ∀ (t14_0 : Int32) (x14_1 : Int32) (μ14 : XS) (H : Heap) (locs : List Loc) (ls : Array Slot), fX8_setSettings_L14 K t14_0 x14_1 μ14 = some μ' → va_P D CL (XP d z b fl μ14) H → va_D A (XP d z b fl μ14) → va_S A s.heap H locs → lv_has ls 2 [(0, .ref (b 13)), (1, .int x14_1)] → W p l e (rmc 1 0 0 21) s m args below meth c H locs 0 0 Q (F0 m 14 ls [.int t14_0, .ref (b 13)]) := by
    intro t14_0 x14_1 μ14 H locs ls hf hP hD hS hl
    unfold fX8_setSettings_L14 at hf
    obtain ⟨ξ_3, h_2, hf⟩ := b1_some hf
    refine runW_v (va_runV (As := [.int t14_0]) (rest := []) S (tX8_touch l D d z b fl K t14_0 μ14 ξ_3 h_2 _) (cwV 1 hts (lw_V q1027 q1029 qs26 q116 q1030) rfl rfl rfl (by decide +kernel) ⟨(Nat.le_of_ble_eq_true rfl), (Nat.le_of_ble_eq_true rfl)⟩) ⟨Pw.blind, (va_recv hK.1 hP (ci := 8) (q0 := 13) rfl rfl), fun U hU hW => Pw.at hK hP hD hZ hS hA hU hW⟩ rfl rfl hl.1 rfl (lv_room (Nat.le_of_ble_eq_true rfl)) dX8_setSettings_14 ⟨(Nat.le_of_ble_eq_true rfl), (Nat.le_of_ble_eq_true rfl)⟩) hP hD hS hA ?_
    clear hP hD hS
    intro H locs hP hD hS
    clear h_2
    refine lv_aload_n hx hb dX8_setSettings_17 rfl (lv_at hl 0 rfl) ?_
    refine lv_iload_n hx hb dX8_setSettings_18 rfl (lv_at hl 1 rfl) ?_
    obtain ⟨ξ_4, e_ξ_4⟩ : ∃ x, x = xI ξ_3 61 x14_1 := ⟨_, rfl⟩
    refine g_put hx hb hts S.2.2.2.1 hK hP hD hS in_X8 tyX8 tyX8_ok nmX8 13 rfl rfl 1 (by decide) q811 (fun _ h9 => h9) rfl (v := .int x14_1) rfl rfl rfl (Nat.le_of_ble_eq_true rfl) (w' := XP d z b fl ξ_4) (by subst e_ξ_4; rfl) dX8_setSettings_19 ?_
    clear hP hD hS
    intro H locs hP hD hS
    replace hf := nm_some hf ξ_4 e_ξ_4
    clear e_ξ_4
    refine W.widen (k := 0) (n := 0) (Nat.le_of_ble_eq_true rfl) (Nat.le_of_ble_eq_true rfl) ?_
    exact hret _ _ _ _ _ hf dX8_setSettings_22 hP hD hS
  unfold fX8_setSettings at hf
  refine lv_aload_n hx hb dX8_setSettings_0 rfl (lv_at hl 0 rfl) ?_
  refine lv_iload_n hx hb dX8_setSettings_1 rfl (lv_at hl 1 rfl) ?_
  refine lv_aload_n hx hb dX8_setSettings_2 rfl (lv_at hl 0 rfl) ?_
  refine g_get hx hb hts S.2.2.2.1 hK hP in_X8 13 rfl rfl 1 (by decide) q811 (fun _ h9 => h9) (v := .int (μ.1 61)) rfl dX8_setSettings_3 ?_
  refine lv_icmp_eq (tgt := 13) hx hb dX8_setSettings_6 (by decide) (fun c_1 => ?_) (fun c_1 => ?_)
  · replace hf := it_t hf c_1
    clear c_1
    refine lv_iconst (v := 0) hx hb dX8_setSettings_13 (by decide) ?_
    exact L14 (0 : Int32) p0 μ _ _ _ hf hP hD hS (lv_sub hl [0, 1] rfl)
  · replace hf := it_f hf c_1
    clear c_1
    refine lv_iconst (v := 1) hx hb dX8_setSettings_9 (by decide) ?_
    refine lv_goto (tgt := 14) hx hb dX8_setSettings_10 (by decide) ?_
    exact L14 (1 : Int32) p0 μ _ _ _ hf hP hD hS (lv_sub hl [0, 1] rfl)
def fX8_record_L49 (K : Nat) (x49_1 : Int32) (μ49 : XS) : Option XS :=
  ga (ix (μ49.1 66) 100) <|
  nm (xF μ49 64 (upd (μ49.2.2.1 64) (μ49.1 66).toNatClampNeg x49_1)) fun ξ_3 =>
  ga (ix (ξ_3.1 66) 100) <|
  nm (xF ξ_3 65 (upd (ξ_3.2.2.1 65) (ξ_3.1 66).toNatClampNeg (vp_nar .boolean (ξ_3.1 63)))) fun ξ_5 =>
  nm (xI ξ_5 66 ((ξ_5.1 66) + (1 : Int32))) fun ξ_6 =>
  nm (xI ξ_6 63 (0 : Int32)) fun ξ_7 =>
  some ξ_7
noncomputable def fX8_record (K : Nat) (p0 : Int32) (μ : XS) : Option XS :=
  if (μ.1 66) = (100 : Int32) then
    ga (0 ≤ (1 : Int32).toInt ∧ 0 ≤ (0 : Int32).toInt ∧ 0 ≤ (99 : Int32).toInt ∧ (1 : Int32).toNatClampNeg + (99 : Int32).toNatClampNeg ≤ 100 ∧ (0 : Int32).toNatClampNeg + (99 : Int32).toNatClampNeg ≤ 100) <|
    nm (xF μ 64 (va_cpy (μ.2.2.1 64) (μ.2.2.1 64) (1 : Int32).toNatClampNeg (0 : Int32).toNatClampNeg (99 : Int32).toNatClampNeg)) fun ξ_9 =>
    ga (0 ≤ (1 : Int32).toInt ∧ 0 ≤ (0 : Int32).toInt ∧ 0 ≤ (99 : Int32).toInt ∧ (1 : Int32).toNatClampNeg + (99 : Int32).toNatClampNeg ≤ 100 ∧ (0 : Int32).toNatClampNeg + (99 : Int32).toNatClampNeg ≤ 100) <|
    gaP (∀ i, i < (99 : Int32).toNatClampNeg → fits .boolean (.int ((ξ_9.2.2.1 65) ((1 : Int32).toNatClampNeg + i))) = true) <|
    nm (xF ξ_9 65 (va_cpy (ξ_9.2.2.1 65) (ξ_9.2.2.1 65) (1 : Int32).toNatClampNeg (0 : Int32).toNatClampNeg (99 : Int32).toNatClampNeg)) fun ξ_12 =>
    nm (xI ξ_12 66 ((ξ_12.1 66) - (1 : Int32))) fun ξ_13 =>
    fX8_record_L49 K p0 ξ_13
  else
    fX8_record_L49 K p0 μ
set_option maxHeartbeats 4000000 in
set_option maxRecDepth 100000 in
theorem tX8_record (l : Launch) (D : va_G) (d : Nat → ClassId) (z : ZT) (b : Nat → Nat) (fl : Option Nat) (K : Nat) (p0 : Int32) (μ : XS) (μ' : XS) (hf : fX8_record K p0 μ = some μ') : CV l yX8_record (ws_ yX8_record cX8_record 2 (Option.none : Option Jvm.ClassFile.FieldType)) (rmc 1 0 0 18) D d z [.ref (b 13), .int p0] (XP d z b fl μ) (XP d z b fl μ') := by
  refine CV.of2 (own := RX8) rfl (by decide) (Nat.le_of_ble_eq_true rfl) ?_
  intro p e s m args below meth c A Q ls S hin hK hP hD hZ hS hA hl hret0
  have hret : ∀ (μx : XS) (H : Heap) (locs : List Loc) (pc : Nat) (ls' : Array Slot), some μx = some μ' → decode cX8_record pc = .ok (.return_, 1) → va_P D CL (XP d z b fl μx) H → va_D A (XP d z b fl μx) → va_S A s.heap H locs → W p l e (rmc 1 0 0 18) s m args below meth c H locs 0 0 Q (F0 m pc ls' []) := by
    intro μx H locs pc ls' h9 hdg hP hD hS
    obtain rfl := so_1 h9
    exact hret0 H locs pc ls' hdg hP hD hS
  have hx := S.1
  have hb := S.2.1
  have hts := S.2.2.2.2
  have hl : lv_has ls 2 [(0, .ref (b 13)), (1, .int p0)] := hl
  have L49 : ∀ (x49_1 : Int32) (μ49 : XS) (H : Heap) (locs : List Loc) (ls : Array Slot), fX8_record_L49 K x49_1 μ49 = some μ' → va_P D CL (XP d z b fl μ49) H → va_D A (XP d z b fl μ49) → va_S A s.heap H locs → lv_has ls 2 [(0, .ref (b 13)), (1, .int x49_1)] → W p l e (rmc 1 0 0 18) s m args below meth c H locs 0 0 Q (F0 m 49 ls []) := by
    intro x49_1 μ49 H locs ls hf hP hD hS hl
    unfold fX8_record_L49 at hf
    refine lv_aload_n hx hb dX8_record_49 rfl (lv_at hl 0 rfl) ?_
    refine g_get hx hb hts S.2.2.2.1 hK hP in_X8 13 rfl rfl 4 (by decide) q816 (fun _ h9 => h9) (v := .ref (b 14)) rfl dX8_record_50 ?_
    refine lv_aload_n hx hb dX8_record_53 rfl (lv_at hl 0 rfl) ?_
    refine g_get hx hb hts S.2.2.2.1 hK hP in_X8 13 rfl rfl 6 (by decide) q820 (fun _ h9 => h9) (v := .int (μ49.1 66)) rfl dX8_record_54 ?_
    refine lv_iload_n hx hb dX8_record_57 rfl (lv_at hl 1 rfl) ?_
    obtain ⟨g_2, hf⟩ := ga_some hf
    obtain ⟨ξ_3, e_ξ_3⟩ : ∃ x, x = xF μ49 64 (upd (μ49.2.2.1 64) (μ49.1 66).toNatClampNeg x49_1) := ⟨_, rfl⟩
    refine g_iast hx hb hK hP hD hS 14 rfl (ix_in g_2) (w' := XP d z b fl ξ_3) (by subst e_ξ_3; rfl) dX8_record_58 ?_
    clear hP hD hS
    intro H locs hP hD hS
    replace hf := nm_some hf ξ_3 e_ξ_3
    clear e_ξ_3
    refine lv_aload_n hx hb dX8_record_59 rfl (lv_at hl 0 rfl) ?_
    refine g_get hx hb hts S.2.2.2.1 hK hP in_X8 13 rfl rfl 5 (by decide) q818 (fun _ h9 => h9) (v := .ref (b 15)) rfl dX8_record_60 ?_
    refine lv_aload_n hx hb dX8_record_63 rfl (lv_at hl 0 rfl) ?_
    refine g_get hx hb hts S.2.2.2.1 hK hP in_X8 13 rfl rfl 6 (by decide) q820 (fun _ h9 => h9) (v := .int (ξ_3.1 66)) rfl dX8_record_64 ?_
    refine lv_aload_n hx hb dX8_record_67 rfl (lv_at hl 0 rfl) ?_
    refine g_get hx hb hts S.2.2.2.1 hK hP in_X8 13 rfl rfl 3 (by decide) q815 (fun _ h9 => h9) (v := .int (ξ_3.1 63)) rfl dX8_record_68 ?_
    obtain ⟨g_4, hf⟩ := ga_some hf
    obtain ⟨ξ_5, e_ξ_5⟩ : ∃ x, x = xF ξ_3 65 (upd (ξ_3.2.2.1 65) (ξ_3.1 66).toNatClampNeg (vp_nar .boolean (ξ_3.1 63))) := ⟨_, rfl⟩
    refine g_zast hx hb hK hP hD hS 15 rfl (ix_in g_4) (w' := XP d z b fl ξ_5) (by subst e_ξ_5; rfl) dX8_record_71 ?_
    clear hP hD hS
    intro H locs hP hD hS
    replace hf := nm_some hf ξ_5 e_ξ_5
    clear e_ξ_5
    refine lv_aload_n hx hb dX8_record_72 rfl (lv_at hl 0 rfl) ?_
    refine lv_dup hx hb dX8_record_73 rfl ?_
    refine g_get hx hb hts S.2.2.2.1 hK hP in_X8 13 rfl rfl 6 (by decide) q820 (fun _ h9 => h9) (v := .int (ξ_5.1 66)) rfl dX8_record_74 ?_
    refine lv_iconst (v := 1) hx hb dX8_record_77 (by decide) ?_
    refine lv_iadd hx hb dX8_record_78 ?_
    obtain ⟨ξ_6, e_ξ_6⟩ : ∃ x, x = xI ξ_5 66 ((ξ_5.1 66) + (1 : Int32)) := ⟨_, rfl⟩
    refine g_put hx hb hts S.2.2.2.1 hK hP hD hS in_X8 tyX8 tyX8_ok nmX8 13 rfl rfl 6 (by decide) q820 (fun _ h9 => h9) rfl (v := .int ((ξ_5.1 66) + (1 : Int32))) rfl rfl rfl (Nat.le_of_ble_eq_true rfl) (w' := XP d z b fl ξ_6) (by subst e_ξ_6; rfl) dX8_record_79 ?_
    clear hP hD hS
    intro H locs hP hD hS
    replace hf := nm_some hf ξ_6 e_ξ_6
    clear e_ξ_6
    refine lv_aload_n hx hb dX8_record_82 rfl (lv_at hl 0 rfl) ?_
    refine lv_iconst (v := 0) hx hb dX8_record_83 (by decide) ?_
    obtain ⟨ξ_7, e_ξ_7⟩ : ∃ x, x = xI ξ_6 63 (0 : Int32) := ⟨_, rfl⟩
    refine g_put hx hb hts S.2.2.2.1 hK hP hD hS in_X8 tyX8 tyX8_ok nmX8 13 rfl rfl 3 (by decide) q815 (fun _ h9 => h9) rfl (v := .int (0 : Int32)) rfl (by decide) (by decide) (Nat.le_of_ble_eq_true rfl) (w' := XP d z b fl ξ_7) (by subst e_ξ_7; rfl) dX8_record_84 ?_
    clear hP hD hS
    intro H locs hP hD hS
    replace hf := nm_some hf ξ_7 e_ξ_7
    clear e_ξ_7
    refine W.widen (k := 0) (n := 0) (Nat.le_of_ble_eq_true rfl) (Nat.le_of_ble_eq_true rfl) ?_
    exact hret _ _ _ _ _ hf dX8_record_87 hP hD hS
  unfold fX8_record at hf
  refine lv_aload_n hx hb dX8_record_0 rfl (lv_at hl 0 rfl) ?_
  refine g_get hx hb hts S.2.2.2.1 hK hP in_X8 13 rfl rfl 6 (by decide) q820 (fun _ h9 => h9) (v := .int (μ.1 66)) rfl dX8_record_1 ?_
  refine lv_bipush (v := 100) hx hb dX8_record_4 (by decide) ?_
  refine lv_icmp_ne (tgt := 49) hx hb dX8_record_6 (by decide) (fun c_1 => ?_) (fun c_1 => ?_)
  · replace hf := it_f hf c_1
    clear c_1
    exact L49 p0 μ _ _ _ hf hP hD hS (lv_sub hl [0, 1] rfl)
  · replace hf := it_t hf c_1
    clear c_1
    refine lv_aload_n hx hb dX8_record_9 rfl (lv_at hl 0 rfl) ?_
    refine g_get hx hb hts S.2.2.2.1 hK hP in_X8 13 rfl rfl 4 (by decide) q816 (fun _ h9 => h9) (v := .ref (b 14)) rfl dX8_record_10 ?_
    refine lv_iconst (v := 1) hx hb dX8_record_13 (by decide) ?_
    refine lv_aload_n hx hb dX8_record_14 rfl (lv_at hl 0 rfl) ?_
    refine g_get hx hb hts S.2.2.2.1 hK hP in_X8 13 rfl rfl 4 (by decide) q816 (fun _ h9 => h9) (v := .ref (b 14)) rfl dX8_record_15 ?_
    refine lv_iconst (v := 0) hx hb dX8_record_18 (by decide) ?_
    refine lv_bipush (v := 99) hx hb dX8_record_19 (by decide) ?_
    obtain ⟨g_8, hf⟩ := ga_some hf
    obtain ⟨ξ_9, e_ξ_9⟩ : ∃ x, x = xF μ 64 (va_cpy (μ.2.2.1 64) (μ.2.2.1 64) (1 : Int32).toNatClampNeg (0 : Int32).toNatClampNeg (99 : Int32).toNatClampNeg) := ⟨_, rfl⟩
    refine g_copyi hx hb (S.2.2.1.trans hl.1.symm) hts S.2.2.2.1 q1220 q532 q531 q110 hK hP hD hS 14 14 0 (ty := .int) rfl rfl rfl rfl g_8.1 g_8.2.1 g_8.2.2.1 g_8.2.2.2.1 g_8.2.2.2.2 (fun _ _ => rfl) (Nat.le_of_ble_eq_true rfl) (Nat.le_of_ble_eq_true rfl) (w' := XP d z b fl ξ_9) (by subst e_ξ_9; rfl) dX8_record_21 ?_
    clear hP hD hS
    intro H locs hP hD hS
    replace hf := nm_some hf ξ_9 e_ξ_9
    clear e_ξ_9
    refine lv_aload_n hx hb dX8_record_24 rfl (lv_at hl 0 rfl) ?_
    refine g_get hx hb hts S.2.2.2.1 hK hP in_X8 13 rfl rfl 5 (by decide) q818 (fun _ h9 => h9) (v := .ref (b 15)) rfl dX8_record_25 ?_
    refine lv_iconst (v := 1) hx hb dX8_record_28 (by decide) ?_
    refine lv_aload_n hx hb dX8_record_29 rfl (lv_at hl 0 rfl) ?_
    refine g_get hx hb hts S.2.2.2.1 hK hP in_X8 13 rfl rfl 5 (by decide) q818 (fun _ h9 => h9) (v := .ref (b 15)) rfl dX8_record_30 ?_
    refine lv_iconst (v := 0) hx hb dX8_record_33 (by decide) ?_
    refine lv_bipush (v := 99) hx hb dX8_record_34 (by decide) ?_
    obtain ⟨g_10, hf⟩ := ga_some hf
    obtain ⟨g_11, hf⟩ := gaP_some hf
    obtain ⟨ξ_12, e_ξ_12⟩ : ∃ x, x = xF ξ_9 65 (va_cpy (ξ_9.2.2.1 65) (ξ_9.2.2.1 65) (1 : Int32).toNatClampNeg (0 : Int32).toNatClampNeg (99 : Int32).toNatClampNeg) := ⟨_, rfl⟩
    refine g_copyi hx hb (S.2.2.1.trans hl.1.symm) hts S.2.2.2.1 q1220 q532 q531 q110 hK hP hD hS 15 15 3 (ty := .boolean) rfl rfl rfl rfl g_10.1 g_10.2.1 g_10.2.2.1 g_10.2.2.2.1 g_10.2.2.2.2 g_11 (Nat.le_of_ble_eq_true rfl) (Nat.le_of_ble_eq_true rfl) (w' := XP d z b fl ξ_12) (by subst e_ξ_12; rfl) dX8_record_36 ?_
    clear hP hD hS
    intro H locs hP hD hS
    replace hf := nm_some hf ξ_12 e_ξ_12
    clear e_ξ_12
    refine lv_aload_n hx hb dX8_record_39 rfl (lv_at hl 0 rfl) ?_
    refine lv_dup hx hb dX8_record_40 rfl ?_
    refine g_get hx hb hts S.2.2.2.1 hK hP in_X8 13 rfl rfl 6 (by decide) q820 (fun _ h9 => h9) (v := .int (ξ_12.1 66)) rfl dX8_record_41 ?_
    refine lv_iconst (v := 1) hx hb dX8_record_44 (by decide) ?_
    refine lv_isub hx hb dX8_record_45 ?_
    obtain ⟨ξ_13, e_ξ_13⟩ : ∃ x, x = xI ξ_12 66 ((ξ_12.1 66) - (1 : Int32)) := ⟨_, rfl⟩
    refine g_put hx hb hts S.2.2.2.1 hK hP hD hS in_X8 tyX8 tyX8_ok nmX8 13 rfl rfl 6 (by decide) q820 (fun _ h9 => h9) rfl (v := .int ((ξ_12.1 66) - (1 : Int32))) rfl rfl rfl (Nat.le_of_ble_eq_true rfl) (w' := XP d z b fl ξ_13) (by subst e_ξ_13; rfl) dX8_record_46 ?_
    clear hP hD hS
    intro H locs hP hD hS
    replace hf := nm_some hf ξ_13 e_ξ_13
    clear e_ξ_13
    exact L49 p0 ξ_13 _ _ _ hf hP hD hS (lv_sub hl [0, 1] rfl)
def fX0_present (K : Nat) (μ : XS) : Option ((Int32 × Int32 × Int32) × XS) :=
  b1 (fX2_of K (μ.1 61)) fun r_2 =>
  some ((r_2.1, r_2.2.1, r_2.2.2), μ)
set_option maxHeartbeats 4000000 in
set_option maxRecDepth 100000 in
theorem tX0_present (l : Launch) (D : va_G) (d : Nat → ClassId) (z : ZT) (b : Nat → Nat) (fl : Option Nat) (K : Nat) (μ : XS) (r : (Int32 × Int32 × Int32)) (μ' : XS) (hf : fX0_present K μ = some (r, μ')) : CRS l yX0_present (ws_ yX0_present cX0_present 1 (Option.some (Jvm.ClassFile.FieldType.object "AntennaTuner$Setting"))) (rmc 3 1 3 55) D d z [.ref (b 0)] (XP d z b fl μ) (fun u : Nat => u) (fun u => XP d z b fl μ' ++ [(u, .inr (3, [.int r.1, .int r.2.1, .int r.2.2]))]) (fun _ => True) := by
  refine CRS.of (own := RX0) rfl (by decide) (Nat.le_of_ble_eq_true rfl) (Or.inl ⟨_, rfl⟩) ?_
  intro p e s m args below meth c A Q ls S hin hK hP hD hZ hS hA hl hret0
  have hret : ∀ (u : Nat) (x : (Int32 × Int32 × Int32)) (μx : XS) (H : Heap) (locs : List Loc) (pc : Nat) (ls' : Array Slot), some (x, μx) = some (r, μ') → decode cX0_present pc = .ok (.areturn, 1) → va_P D CL (XP d z b fl μx ++ [(u, .inr (3, [.int x.1, .int x.2.1, .int x.2.2]))]) H → va_D A (XP d z b fl μx ++ [(u, .inr (3, [.int x.1, .int x.2.1, .int x.2.2]))]) → va_S A s.heap H locs → W p l e (rmc 3 1 3 55) s m args below meth c H locs 1 3 Q (F0 m pc ls' [.ref u]) := by
    intro u x μx H locs pc ls' h9 hdg hP hD hS
    obtain ⟨rfl, rfl⟩ := so_2 h9
    exact hret0 u trivial H locs pc ls' hdg hP hD hS
  have hx := S.1
  have hb := S.2.1
  have hts := S.2.2.2.2
  have hl : lv_has ls 1 [(0, .ref (b 0))] := hl
  unfold fX0_present at hf
  refine lv_aload_n hx hb dX0_present_0 rfl (lv_at hl 0 rfl) ?_
  refine g_get hx hb hts S.2.2.2.1 hK hP in_X0 0 rfl rfl 8 (by decide) q293 (fun _ h9 => h9) (v := .ref (b 13)) rfl dX0_present_1 ?_
  refine g_getN hx hb hts S.2.2.2.1 hK hP in_X8 13 rfl rfl 1 (by decide) q812 (fun _ h9 => h9) (v := .int (μ.1 61)) rfl dX0_present_4 ?_
  obtain ⟨r_2, h_1, hf⟩ := b1_some hf
  refine run_rS0 (wr := [(b 0, .inr (1, [.ref (b 1), .int (μ.1 1), .int (μ.1 2), .ref (b 2), .ref (b 3), .ref (b 4), va_rf fl, .ref (b 7), .ref (b 13), .ref (b 16), .int (μ.1 10)])), (b 1, .inl (d 2, 500, .inl (μ.2.2.1 1))), (b 2, .inl (d 5, 2, .inr (.inr (.inr (.inr (fun j => some (z.2.2 j))))))), (b 3, .inl (d 6, 5, .inr (.inr (.inr (.inr (fun j => some (z.2.2 (2 + j)))))))), (b 4, .inr (4, [.int (μ.1 20), .long (μ.2.1 21), .long (μ.2.1 22), .long (μ.2.1 23), .ref (b 5), .ref (b 6), .ref (b 0)])), (b 5, .inr (2, [.long (μ.2.1 30), .long (μ.2.1 31)])), (b 6, .inr (2, [.long (μ.2.1 32), .long (μ.2.1 33)])), (b 7, .inr (6, [.int (μ.1 40), .int (μ.1 41), .int (μ.1 42), .int (μ.1 43), .int (μ.1 44), .int (μ.1 45), .ref (b 8), .ref (b 9), .ref (b 10), .int (μ.1 49), .ref (b 11), .ref (b 12), .int (μ.1 52)])), (b 8, .inl (d 0, 16, .inl (μ.2.2.1 46))), (b 9, .inl (d 1, 16, .inr (.inl (μ.2.2.2.1 47)))), (b 10, .inl (d 1, 16, .inr (.inl (μ.2.2.2.1 48)))), (b 11, .inl (d 0, 8, .inl (μ.2.2.1 50))), (b 12, .inl (d 0, 8, .inl (μ.2.2.1 51))), (b 13, .inr (8, [.int (μ.1 60), .int (μ.1 61), .int (μ.1 62), .int (μ.1 63), .ref (b 14), .ref (b 15), .int (μ.1 66), .ref (b 17)])), (b 14, .inl (d 0, 100, .inl (μ.2.2.1 64))), (b 15, .inl (d 3, 100, .inl (μ.2.2.1 65)))]) (w' := fun u => XP d z b fl μ ++ [(u, .inr (3, [.int r_2.1, .int r_2.2.1, .int r_2.2.2]))]) (va_runS (As := [.int (μ.1 61)]) (rest := []) S (tX2_of l D d z K (μ.1 61) r_2 h_1 _) (va_cwS 1 hts (lw_S q1039 q1040 q97 q1041) rfl rfl rfl (by decide +kernel) ⟨(Nat.le_of_ble_eq_true rfl), (Nat.le_of_ble_eq_true rfl)⟩) ⟨Pw.blind, fun U hU hW => Pw.cut (w := []) (tl := _) hK hP hD hZ hS hA [] rfl rfl hU hW⟩ rfl rfl hl.1 rfl (lv_room (Nat.le_of_ble_eq_true rfl)) dX0_present_7 ⟨(Nat.le_of_ble_eq_true rfl), (Nat.le_of_ble_eq_true rfl)⟩) hP hD hS hA [] [0, 1, 2, 3, 4, 5, 6, 7, 8, 9, 10, 11, 12, 13, 14, 15] [0, 1, 2, 3, 4, 5, 6, 7, 8, 9, 10, 11, 12, 13, 14, 15, 16] rfl rfl rfl rfl (by decide) rfl (fun _ => rfl) ?_
  clear hP hD hS
  intro q_3 _ H locs hP hD hS
  clear h_1
  refine W.widen (k := 1) (n := 3) (Nat.le_of_ble_eq_true rfl) (Nat.le_of_ble_eq_true rfl) ?_
  exact hret q_3 _ _ _ _ _ _ hf dX0_present_10 hP hD hS
