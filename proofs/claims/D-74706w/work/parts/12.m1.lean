/-! static methods of AntennaTunerModel -/
set_option maxRecDepth 100000
def fX4_isIn (K : Nat) (p0 : Int64) (p1 : Int64) (p2 : Int64) : Option Bool :=
  if p0 < p1 then
    some false
  else
    if p2 < p0 then
      some false
    else
      some true
set_option maxHeartbeats 4000000 in
set_option maxRecDepth 100000 in
theorem tX4_isIn (l : Launch) (K : Nat) (p0 : Int64) (p1 : Int64) (p2 : Int64) (r : Bool) (hf : fX4_isIn K p0 p1 p2 = some r) : SI l yX4_isIn (ws_ yX4_isIn cX4_isIn 6 (Option.some Jvm.ClassFile.FieldType.boolean)) 0 0 [.long p0, .long p1, .long p2] (bi r) := by
  refine sZ_of (own := RX4) rfl (by decide) (Nat.le_of_ble_eq_true rfl) ?_
  intro p e s m args below meth c Q ls S hl hret
  have hx := S.1
  have hb := S.2.1
  have hts := S.2.2.2.2
  have hl : lv_has ls 6 [(0, .long p0), (2, .long p1), (4, .long p2)] := hl
  unfold fX4_isIn at hf
  refine lv_lload_n hx hb dX4_isIn_0 rfl (lv_at hl 0 rfl) ?_
  refine lv_lload_n hx hb dX4_isIn_1 rfl (lv_at hl 1 rfl) ?_
  refine g_lcmp_lt (tgt := 17) hx hb dX4_isIn_2 dX4_isIn_3 (by decide) (fun c_1 => ?_) (fun c_1 => ?_)
  · replace hf := it_t hf c_1
    clear c_1
    refine lv_iconst (v := 0) hx hb dX4_isIn_17 (by decide) ?_
    exact hret _ _ _ hf dX4_isIn_18
  · replace hf := it_f hf c_1
    clear c_1
    refine lv_lload_n hx hb dX4_isIn_6 rfl (lv_at hl 0 rfl) ?_
    refine lv_lload hx hb dX4_isIn_7 (lv_at hl 2 rfl) ?_
    refine g_lcmp_gt (tgt := 17) hx hb dX4_isIn_9 dX4_isIn_10 (by decide) (fun c_2 => ?_) (fun c_2 => ?_)
    · replace hf := it_t hf c_2
      clear c_2
      refine lv_iconst (v := 0) hx hb dX4_isIn_17 (by decide) ?_
      exact hret _ _ _ hf dX4_isIn_18
    · replace hf := it_f hf c_2
      clear c_2
      refine lv_iconst (v := 1) hx hb dX4_isIn_13 (by decide) ?_
      refine lv_goto (tgt := 18) hx hb dX4_isIn_14 (by decide) ?_
      exact hret _ _ _ hf dX4_isIn_18
def fX4_clamp (K : Nat) (p0 : Int64) (p1 : Int64) (p2 : Int64) : Option Int64 :=
  if p1 ≤ p0 then
    if p0 ≤ p2 then
      some p0
    else
      some p2
  else
    some p1
set_option maxHeartbeats 4000000 in
set_option maxRecDepth 100000 in
theorem tX4_clamp (l : Launch) (K : Nat) (p0 : Int64) (p1 : Int64) (p2 : Int64) (r : Int64) (hf : fX4_clamp K p0 p1 p2 = some r) : SJ l yX4_clamp (ws_ yX4_clamp cX4_clamp 6 (Option.some Jvm.ClassFile.FieldType.long)) 0 0 [.long p0, .long p1, .long p2] r := by
  refine sJ_of (own := RX4) rfl (by decide) (Nat.le_of_ble_eq_true rfl) ?_
  intro p e s m args below meth c Q ls S hl hret
  have hx := S.1
  have hb := S.2.1
  have hts := S.2.2.2.2
  have hl : lv_has ls 6 [(0, .long p0), (2, .long p1), (4, .long p2)] := hl
  unfold fX4_clamp at hf
  refine lv_lload_n hx hb dX4_clamp_0 rfl (lv_at hl 0 rfl) ?_
  refine lv_lload_n hx hb dX4_clamp_1 rfl (lv_at hl 1 rfl) ?_
  refine g_lcmp_ge (tgt := 10) hx hb dX4_clamp_2 dX4_clamp_3 (by decide) (fun c_1 => ?_) (fun c_1 => ?_)
  · replace hf := it_t hf c_1
    clear c_1
    refine lv_lload_n hx hb dX4_clamp_10 rfl (lv_at hl 0 rfl) ?_
    refine lv_lload hx hb dX4_clamp_11 (lv_at hl 2 rfl) ?_
    refine g_lcmp_le (tgt := 22) hx hb dX4_clamp_13 dX4_clamp_14 (by decide) (fun c_2 => ?_) (fun c_2 => ?_)
    · replace hf := it_t hf c_2
      clear c_2
      refine lv_lload_n hx hb dX4_clamp_22 rfl (lv_at hl 0 rfl) ?_
      exact hret _ _ _ hf dX4_clamp_23
    · replace hf := it_f hf c_2
      clear c_2
      refine lv_lload hx hb dX4_clamp_17 (lv_at hl 2 rfl) ?_
      refine lv_goto (tgt := 23) hx hb dX4_clamp_19 (by decide) ?_
      exact hret _ _ _ hf dX4_clamp_23
  · replace hf := it_f hf c_1
    clear c_1
    refine lv_lload_n hx hb dX4_clamp_6 rfl (lv_at hl 1 rfl) ?_
    refine lv_goto (tgt := 23) hx hb dX4_clamp_7 (by decide) ?_
    exact hret _ _ _ hf dX4_clamp_23
def fX4_root_L7 (K : Nat) : Nat → Int64 → Int64 → Int64 → Option Int64
  | 0, _, _, _ => none
  | n + 1, x7_0, x7_2, x7_4 =>
    if x7_4 ≤ x7_2 then
      some x7_2
    else
      nm (((x7_2 + x7_4) + (1 : Int64)) / (2 : Int64)) fun v_2 =>
      if x7_0 < (v_2 * v_2) then
        nm (v_2 - (1 : Int64)) fun v_4 =>
        fX4_root_L7 K n x7_0 x7_2 v_4
      else
        fX4_root_L7 K n x7_0 v_2 x7_4
def fX4_root (K : Nat) (p0 : Int64) : Option Int64 :=
  fX4_root_L7 K K p0 (0 : Int64) (3037000499 : Int64)
set_option maxHeartbeats 4000000 in
set_option maxRecDepth 100000 in
theorem tX4_root (l : Launch) (K : Nat) (p0 : Int64) (r : Int64) (hf : fX4_root K p0 = some r) : SJ l yX4_root (ws_ yX4_root cX4_root 8 (Option.some Jvm.ClassFile.FieldType.long)) 0 0 [.long p0] r := by
  refine sJ_of (own := RX4) rfl (by decide) (Nat.le_of_ble_eq_true rfl) ?_
  intro p e s m args below meth c Q ls S hl hret
  have hx := S.1
  have hb := S.2.1
  have hts := S.2.2.2.2
  have hl : lv_has ls 8 [(0, .long p0)] := hl
  have L7 : ∀ (n : Nat) (x7_0 : Int64) (x7_2 : Int64) (x7_4 : Int64) (ls : Array Slot), fX4_root_L7 K n x7_0 x7_2 x7_4 = some r → lv_has ls 8 [(0, .long x7_0), (2, .long x7_2), (4, .long x7_4)] → W p l e (rmc 0 0 0 0) s m args below meth c s.heap [] 0 0 Q (F0 m 7 ls []) := by
    intro n
    induction n with
    | zero =>
      intro x7_0 x7_2 x7_4 ls hf hl
      rw [fX4_root_L7] at hf
      cases hf
    | succ n ih =>
      intro x7_0 x7_2 x7_4 ls hf hl
      rw [fX4_root_L7] at hf
      refine lv_lload_n hx hb dX4_root_7 rfl (lv_at hl 1 rfl) ?_
      refine lv_lload hx hb dX4_root_8 (lv_at hl 2 rfl) ?_
      refine g_lcmp_ge (tgt := 51) hx hb dX4_root_10 dX4_root_11 (by decide) (fun c_1 => ?_) (fun c_1 => ?_)
      · replace hf := it_t hf c_1
        clear c_1
        refine lv_lload_n hx hb dX4_root_51 rfl (lv_at hl 1 rfl) ?_
        exact hret _ _ _ hf dX4_root_52
      · replace hf := it_f hf c_1
        clear c_1
        refine lv_lload_n hx hb dX4_root_14 rfl (lv_at hl 1 rfl) ?_
        refine lv_lload hx hb dX4_root_15 (lv_at hl 2 rfl) ?_
        refine lv_ladd hx hb dX4_root_17 ?_
        refine lv_lconst (v := 1) hx hb dX4_root_18 (by decide) ?_
        refine lv_ladd hx hb dX4_root_19 ?_
        refine lv_ldc2 hx hb S.2.2.2.1 (hts _ q2016) dX4_root_20 ?_
        refine lv_ldiv hx hb dX4_root_23 (by decide) ?_
        refine lv_topl (fun v_2 e_ => ?_)
        replace hf := nm_some hf v_2 e_
        clear e_
        refine lv_lstore (lv' := [(6, .long v_2), (0, .long x7_0), (2, .long x7_2), (4, .long x7_4)]) hx hb dX4_root_24 hl (by decide) rfl (fun ls hl => ?_)
        refine lv_lload hx hb dX4_root_26 (lv_at hl 0 rfl) ?_
        refine lv_lload hx hb dX4_root_28 (lv_at hl 0 rfl) ?_
        refine lv_lmul hx hb dX4_root_30 ?_
        refine lv_lload_n hx hb dX4_root_31 rfl (lv_at hl 1 rfl) ?_
        refine g_lcmp_gt (tgt := 42) hx hb dX4_root_32 dX4_root_33 (by decide) (fun c_3 => ?_) (fun c_3 => ?_)
        · replace hf := it_t hf c_3
          clear c_3
          refine lv_lload hx hb dX4_root_42 (lv_at hl 0 rfl) ?_
          refine lv_lconst (v := 1) hx hb dX4_root_44 (by decide) ?_
          refine lv_lsub hx hb dX4_root_45 ?_
          refine lv_topl (fun v_4 e_ => ?_)
          replace hf := nm_some hf v_4 e_
          clear e_
          refine lv_lstore (lv' := [(4, .long v_4), (6, .long v_2), (0, .long x7_0), (2, .long x7_2)]) hx hb dX4_root_46 hl (by decide) rfl (fun ls hl => ?_)
          refine lv_goto (tgt := 7) hx hb dX4_root_48 (by decide) ?_
          exact ih x7_0 x7_2 v_4 _ hf (lv_sub hl [2, 3, 0] rfl)
        · replace hf := it_f hf c_3
          clear c_3
          refine lv_lload hx hb dX4_root_36 (lv_at hl 0 rfl) ?_
          refine lv_lstore_n (lv' := [(2, .long v_2), (6, .long v_2), (0, .long x7_0), (4, .long x7_4)]) hx hb dX4_root_38 rfl hl (by decide) rfl (fun ls hl => ?_)
          refine lv_goto (tgt := 48) hx hb dX4_root_39 (by decide) ?_
          refine lv_goto (tgt := 7) hx hb dX4_root_48 (by decide) ?_
          exact ih x7_0 v_2 x7_4 _ hf (lv_sub hl [2, 0, 3] rfl)
  unfold fX4_root at hf
  refine lv_lconst (v := 0) hx hb dX4_root_0 (by decide) ?_
  refine lv_lstore_n (lv' := [(2, .long (0 : Int64)), (0, .long p0)]) hx hb dX4_root_1 rfl hl (by decide) rfl (fun ls hl => ?_)
  refine lv_ldc2 hx hb S.2.2.2.1 (hts _ q2015) dX4_root_2 ?_
  refine lv_lstore (lv' := [(4, .long (3037000499 : Int64)), (2, .long (0 : Int64)), (0, .long p0)]) hx hb dX4_root_5 hl (by decide) rfl (fun ls hl => ?_)
  exact L7 K p0 (0 : Int64) (3037000499 : Int64) _ hf (lv_sub hl [2, 1, 0] rfl)
def fX4_isFrequency (K : Nat) (p0 : Int32) : Option Bool :=
  b1 (fX4_isIn K p0.toInt64 (1500 : Int64) (30000 : Int64)) fun r_1 =>
  some r_1
set_option maxHeartbeats 4000000 in
set_option maxRecDepth 100000 in
theorem tX4_isFrequency (l : Launch) (K : Nat) (p0 : Int32) (r : Bool) (hf : fX4_isFrequency K p0 = some r) : SI l yX4_isFrequency (ws_ yX4_isFrequency cX4_isFrequency 1 (Option.some Jvm.ClassFile.FieldType.boolean)) 1 25 [.int p0] (bi r) := by
  refine sZ_of (own := RX4) rfl (by decide) (Nat.le_of_ble_eq_true rfl) ?_
  intro p e s m args below meth c Q ls S hl hret
  have hx := S.1
  have hb := S.2.1
  have hts := S.2.2.2.2
  have hl : lv_has ls 1 [(0, .int p0)] := hl
  unfold fX4_isFrequency at hf
  refine lv_iload_n hx hb dX4_isFrequency_0 rfl (lv_at hl 0 rfl) ?_
  refine lv_i2l (v := p0.toInt64) hx hb dX4_isFrequency_1 rfl ?_
  refine lv_ldc2 hx hb S.2.2.2.1 (hts _ q1873) dX4_isFrequency_2 ?_
  refine lv_ldc2 hx hb S.2.2.2.1 (hts _ q1874) dX4_isFrequency_5 ?_
  obtain ⟨r_1, h_2, hf⟩ := b1_some hf
  refine si_call S (tX4_isIn l K p0.toInt64 (1500 : Int64) (30000 : Int64) _ h_2) (va_cwS 3 hts (lw_S q1754 q1755 q101 q1756) rfl rfl rfl (by decide +kernel) ⟨Nat.le_of_ble_eq_true rfl, Nat.le_of_ble_eq_true rfl⟩) rfl hl.1 rfl (Nat.le_of_ble_eq_true rfl) ⟨Nat.le_of_ble_eq_true rfl, Nat.le_of_ble_eq_true rfl⟩ dX4_isFrequency_8 ?_
  clear h_2
  exact hret _ _ _ hf dX4_isFrequency_11
def fX4_side (K : Nat) (p0 : Int32) : Option Int32 :=
  some (p0 / (4096 : Int32))
set_option maxHeartbeats 4000000 in
set_option maxRecDepth 100000 in
theorem tX4_side (l : Launch) (K : Nat) (p0 : Int32) (r : Int32) (hf : fX4_side K p0 = some r) : SI l yX4_side (ws_ yX4_side cX4_side 1 (Option.some Jvm.ClassFile.FieldType.int)) 0 0 [.int p0] r := by
  refine sI_of (own := RX4) rfl (by decide) (Nat.le_of_ble_eq_true rfl) ?_
  intro p e s m args below meth c Q ls S hl hret
  have hx := S.1
  have hb := S.2.1
  have hts := S.2.2.2.2
  have hl : lv_has ls 1 [(0, .int p0)] := hl
  unfold fX4_side at hf
  refine lv_iload_n hx hb dX4_side_0 rfl (lv_at hl 0 rfl) ?_
  refine lv_sipush (v := 4096) hx hb dX4_side_1 (by decide) ?_
  refine lv_idiv hx hb dX4_side_4 (by decide) ?_
  exact hret _ _ _ hf dX4_side_5
def fX4_coil (K : Nat) (p0 : Int32) : Option Int32 :=
  some ((p0 / (64 : Int32)) - (p0 / (64 : Int32)) / (64 : Int32) * (64 : Int32))
set_option maxHeartbeats 4000000 in
set_option maxRecDepth 100000 in
theorem tX4_coil (l : Launch) (K : Nat) (p0 : Int32) (r : Int32) (hf : fX4_coil K p0 = some r) : SI l yX4_coil (ws_ yX4_coil cX4_coil 1 (Option.some Jvm.ClassFile.FieldType.int)) 0 0 [.int p0] r := by
  refine sI_of (own := RX4) rfl (by decide) (Nat.le_of_ble_eq_true rfl) ?_
  intro p e s m args below meth c Q ls S hl hret
  have hx := S.1
  have hb := S.2.1
  have hts := S.2.2.2.2
  have hl : lv_has ls 1 [(0, .int p0)] := hl
  unfold fX4_coil at hf
  refine lv_iload_n hx hb dX4_coil_0 rfl (lv_at hl 0 rfl) ?_
  refine lv_bipush (v := 64) hx hb dX4_coil_1 (by decide) ?_
  refine lv_idiv hx hb dX4_coil_3 (by decide) ?_
  refine lv_bipush (v := 64) hx hb dX4_coil_4 (by decide) ?_
  refine lv_irem hx hb dX4_coil_6 (by decide) ?_
  exact hret _ _ _ hf dX4_coil_7
def fX4_capacitor (K : Nat) (p0 : Int32) : Option Int32 :=
  some (p0 - p0 / (64 : Int32) * (64 : Int32))
set_option maxHeartbeats 4000000 in
set_option maxRecDepth 100000 in
theorem tX4_capacitor (l : Launch) (K : Nat) (p0 : Int32) (r : Int32) (hf : fX4_capacitor K p0 = some r) : SI l yX4_capacitor (ws_ yX4_capacitor cX4_capacitor 1 (Option.some Jvm.ClassFile.FieldType.int)) 0 0 [.int p0] r := by
  refine sI_of (own := RX4) rfl (by decide) (Nat.le_of_ble_eq_true rfl) ?_
  intro p e s m args below meth c Q ls S hl hret
  have hx := S.1
  have hb := S.2.1
  have hts := S.2.2.2.2
  have hl : lv_has ls 1 [(0, .int p0)] := hl
  unfold fX4_capacitor at hf
  refine lv_iload_n hx hb dX4_capacitor_0 rfl (lv_at hl 0 rfl) ?_
  refine lv_bipush (v := 64) hx hb dX4_capacitor_1 (by decide) ?_
  refine lv_irem hx hb dX4_capacitor_3 (by decide) ?_
  exact hret _ _ _ hf dX4_capacitor_4
def fX4_together (K : Nat) (p0 : Int32) (p1 : Int32) (p2 : Int32) : Option Int32 :=
  some ((((4096 : Int32) * p0) + ((64 : Int32) * p1)) + p2)
set_option maxHeartbeats 4000000 in
set_option maxRecDepth 100000 in
theorem tX4_together (l : Launch) (K : Nat) (p0 : Int32) (p1 : Int32) (p2 : Int32) (r : Int32) (hf : fX4_together K p0 p1 p2 = some r) : SI l yX4_together (ws_ yX4_together cX4_together 3 (Option.some Jvm.ClassFile.FieldType.int)) 0 0 [.int p0, .int p1, .int p2] r := by
  refine sI_of (own := RX4) rfl (by decide) (Nat.le_of_ble_eq_true rfl) ?_
  intro p e s m args below meth c Q ls S hl hret
  have hx := S.1
  have hb := S.2.1
  have hts := S.2.2.2.2
  have hl : lv_has ls 3 [(0, .int p0), (1, .int p1), (2, .int p2)] := hl
  unfold fX4_together at hf
  refine lv_sipush (v := 4096) hx hb dX4_together_0 (by decide) ?_
  refine lv_iload_n hx hb dX4_together_3 rfl (lv_at hl 0 rfl) ?_
  refine lv_imul hx hb dX4_together_4 ?_
  refine lv_bipush (v := 64) hx hb dX4_together_5 (by decide) ?_
  refine lv_iload_n hx hb dX4_together_7 rfl (lv_at hl 1 rfl) ?_
  refine lv_imul hx hb dX4_together_8 ?_
  refine lv_iadd hx hb dX4_together_9 ?_
  refine lv_iload_n hx hb dX4_together_10 rfl (lv_at hl 2 rfl) ?_
  refine lv_iadd hx hb dX4_together_11 ?_
  exact hret _ _ _ hf dX4_together_12
def fX4_areSettings (K : Nat) (p0 : Int32) (p1 : Int32) (p2 : Int32) : Option Bool :=
  b1 (fX4_isIn K p0.toInt64 (0 : Int64) (1 : Int64)) fun r_1 =>
  if r_1 = true then
    b1 (fX4_isIn K p1.toInt64 (0 : Int64) (63 : Int64)) fun r_4 =>
    if r_4 = true then
      b1 (fX4_isIn K p2.toInt64 (0 : Int64) (63 : Int64)) fun r_7 =>
      if r_7 = true then
        some true
      else
        some false
    else
      some false
  else
    some false
set_option maxHeartbeats 4000000 in
set_option maxRecDepth 100000 in
theorem tX4_areSettings (l : Launch) (K : Nat) (p0 : Int32) (p1 : Int32) (p2 : Int32) (r : Bool) (hf : fX4_areSettings K p0 p1 p2 = some r) : SI l yX4_areSettings (ws_ yX4_areSettings cX4_areSettings 3 (Option.some Jvm.ClassFile.FieldType.boolean)) 1 25 [.int p0, .int p1, .int p2] (bi r) := by
  refine sZ_of (own := RX4) rfl (by decide) (Nat.le_of_ble_eq_true rfl) ?_
  intro p e s m args below meth c Q ls S hl hret
  have hx := S.1
  have hb := S.2.1
  have hts := S.2.2.2.2
  have hl : lv_has ls 3 [(0, .int p0), (1, .int p1), (2, .int p2)] := hl
  unfold fX4_areSettings at hf
  refine lv_iload_n hx hb dX4_areSettings_0 rfl (lv_at hl 0 rfl) ?_
  refine lv_i2l (v := p0.toInt64) hx hb dX4_areSettings_1 rfl ?_
  refine lv_lconst (v := 0) hx hb dX4_areSettings_2 (by decide) ?_
  refine lv_lconst (v := 1) hx hb dX4_areSettings_3 (by decide) ?_
  obtain ⟨r_1, h_2, hf⟩ := b1_some hf
  refine si_call S (tX4_isIn l K p0.toInt64 (0 : Int64) (1 : Int64) _ h_2) (va_cwS 3 hts (lw_S q1754 q1755 q101 q1756) rfl rfl rfl (by decide +kernel) ⟨Nat.le_of_ble_eq_true rfl, Nat.le_of_ble_eq_true rfl⟩) rfl hl.1 rfl (Nat.le_of_ble_eq_true rfl) ⟨Nat.le_of_ble_eq_true rfl, Nat.le_of_ble_eq_true rfl⟩ dX4_areSettings_4 ?_
  clear h_2
  refine lv_if_eq (tgt := 38) hx hb dX4_areSettings_7 (by decide) (fun c_3 => ?_) (fun c_3 => ?_)
  · replace hf := it_f hf (bi_e0 c_3)
    clear c_3
    refine lv_iconst (v := 0) hx hb dX4_areSettings_38 (by decide) ?_
    exact hret _ _ _ hf dX4_areSettings_39
  · replace hf := it_t hf (bi_n0 c_3)
    clear c_3
    refine lv_iload_n hx hb dX4_areSettings_10 rfl (lv_at hl 1 rfl) ?_
    refine lv_i2l (v := p1.toInt64) hx hb dX4_areSettings_11 rfl ?_
    refine lv_lconst (v := 0) hx hb dX4_areSettings_12 (by decide) ?_
    refine lv_ldc2 hx hb S.2.2.2.1 (hts _ q1950) dX4_areSettings_13 ?_
    obtain ⟨r_4, h_5, hf⟩ := b1_some hf
    refine si_call S (tX4_isIn l K p1.toInt64 (0 : Int64) (63 : Int64) _ h_5) (va_cwS 3 hts (lw_S q1754 q1755 q101 q1756) rfl rfl rfl (by decide +kernel) ⟨Nat.le_of_ble_eq_true rfl, Nat.le_of_ble_eq_true rfl⟩) rfl hl.1 rfl (Nat.le_of_ble_eq_true rfl) ⟨Nat.le_of_ble_eq_true rfl, Nat.le_of_ble_eq_true rfl⟩ dX4_areSettings_16 ?_
    clear h_5
    refine lv_if_eq (tgt := 38) hx hb dX4_areSettings_19 (by decide) (fun c_6 => ?_) (fun c_6 => ?_)
    · replace hf := it_f hf (bi_e0 c_6)
      clear c_6
      refine lv_iconst (v := 0) hx hb dX4_areSettings_38 (by decide) ?_
      exact hret _ _ _ hf dX4_areSettings_39
    · replace hf := it_t hf (bi_n0 c_6)
      clear c_6
      refine lv_iload_n hx hb dX4_areSettings_22 rfl (lv_at hl 2 rfl) ?_
      refine lv_i2l (v := p2.toInt64) hx hb dX4_areSettings_23 rfl ?_
      refine lv_lconst (v := 0) hx hb dX4_areSettings_24 (by decide) ?_
      refine lv_ldc2 hx hb S.2.2.2.1 (hts _ q1950) dX4_areSettings_25 ?_
      obtain ⟨r_7, h_8, hf⟩ := b1_some hf
      refine si_call S (tX4_isIn l K p2.toInt64 (0 : Int64) (63 : Int64) _ h_8) (va_cwS 3 hts (lw_S q1754 q1755 q101 q1756) rfl rfl rfl (by decide +kernel) ⟨Nat.le_of_ble_eq_true rfl, Nat.le_of_ble_eq_true rfl⟩) rfl hl.1 rfl (Nat.le_of_ble_eq_true rfl) ⟨Nat.le_of_ble_eq_true rfl, Nat.le_of_ble_eq_true rfl⟩ dX4_areSettings_28 ?_
      clear h_8
      refine lv_if_eq (tgt := 38) hx hb dX4_areSettings_31 (by decide) (fun c_9 => ?_) (fun c_9 => ?_)
      · replace hf := it_f hf (bi_e0 c_9)
        clear c_9
        refine lv_iconst (v := 0) hx hb dX4_areSettings_38 (by decide) ?_
        exact hret _ _ _ hf dX4_areSettings_39
      · replace hf := it_t hf (bi_n0 c_9)
        clear c_9
        refine lv_iconst (v := 1) hx hb dX4_areSettings_34 (by decide) ?_
        refine lv_goto (tgt := 39) hx hb dX4_areSettings_35 (by decide) ?_
        exact hret _ _ _ hf dX4_areSettings_39
def fX4_isEdge (K : Nat) (p0 : Int32) : Option Bool :=
  if p0 = 0 then
    some true
  else
    if p0 = (63 : Int32) then
      some true
    else
      some false
set_option maxHeartbeats 4000000 in
set_option maxRecDepth 100000 in
theorem tX4_isEdge (l : Launch) (K : Nat) (p0 : Int32) (r : Bool) (hf : fX4_isEdge K p0 = some r) : SI l yX4_isEdge (ws_ yX4_isEdge cX4_isEdge 1 (Option.some Jvm.ClassFile.FieldType.boolean)) 0 0 [.int p0] (bi r) := by
  refine sZ_of (own := RX4) rfl (by decide) (Nat.le_of_ble_eq_true rfl) ?_
  intro p e s m args below meth c Q ls S hl hret
  have hx := S.1
  have hb := S.2.1
  have hts := S.2.2.2.2
  have hl : lv_has ls 1 [(0, .int p0)] := hl
  unfold fX4_isEdge at hf
  refine lv_iload_n hx hb dX4_isEdge_0 rfl (lv_at hl 0 rfl) ?_
  refine lv_if_eq (tgt := 10) hx hb dX4_isEdge_1 (by decide) (fun c_1 => ?_) (fun c_1 => ?_)
  · replace hf := it_t hf c_1
    clear c_1
    refine lv_iconst (v := 1) hx hb dX4_isEdge_10 (by decide) ?_
    refine lv_goto (tgt := 15) hx hb dX4_isEdge_11 (by decide) ?_
    exact hret _ _ _ hf dX4_isEdge_15
  · replace hf := it_f hf c_1
    clear c_1
    refine lv_iload_n hx hb dX4_isEdge_4 rfl (lv_at hl 0 rfl) ?_
    refine lv_bipush (v := 63) hx hb dX4_isEdge_5 (by decide) ?_
    refine lv_icmp_ne (tgt := 14) hx hb dX4_isEdge_7 (by decide) (fun c_2 => ?_) (fun c_2 => ?_)
    · replace hf := it_f hf c_2
      clear c_2
      refine lv_iconst (v := 0) hx hb dX4_isEdge_14 (by decide) ?_
      exact hret _ _ _ hf dX4_isEdge_15
    · replace hf := it_t hf c_2
      clear c_2
      refine lv_iconst (v := 1) hx hb dX4_isEdge_10 (by decide) ?_
      refine lv_goto (tgt := 15) hx hb dX4_isEdge_11 (by decide) ?_
      exact hret _ _ _ hf dX4_isEdge_15
def fX4_put_L3 (K : Nat) : Nat → Int32 → Int32 → MS → Option MS
  | 0, _, _, _ => none
  | n + 1, x3_1, x3_2, μ3 =>
    if x3_2 < 0 then
      some μ3
    else
      ga (ix (μ3.1 18) 500) <|
      nm (sF μ3 17 (upd (μ3.2.2 17) (μ3.1 18).toNatClampNeg ((x3_1 >>> (x3_2 &&& 31)) &&& (255 : Int32)))) fun μ_3 =>
      nm (sI μ_3 18 ((μ_3.1 18) + (1 : Int32))) fun μ_4 =>
      fX4_put_L3 K n x3_1 (x3_2 + (-8 : Int32)) μ_4
def fX4_put (K : Nat) (p0 : Int32) (μ : MS) : Option MS :=
  fX4_put_L3 K K p0 (24 : Int32) μ
set_option maxHeartbeats 4000000 in
set_option maxRecDepth 100000 in
theorem tX4_put (l : Launch) (D : va_G) (d : Nat → ClassId) (z : ZT) (o : Nat) (a : Nat → Nat) (K : Nat) (p0 : Int32) (μ : MS) (μ' : MS) (hf : fX4_put K p0 μ = some μ') : CV l yX4_put (ws_ yX4_put cX4_put 3 (Option.none : Option Jvm.ClassFile.FieldType)) (rmc 0 0 0 0) D d z [.ref o, .int p0] (MP d o a μ) (MP d o a μ') := by
  refine mV_of rfl (by decide) (Nat.le_of_ble_eq_true rfl) ?_
  intro p e s m args below meth c A Q ls S hK hP hD hZ hS hA hl hret
  have hx := S.1
  have hb := S.2.1
  have hts := S.2.2.2.2
  have hl : lv_has ls 3 [(0, .ref o), (1, .int p0)] := hl
  have L3 : ∀ (n : Nat) (x3_1 : Int32) (x3_2 : Int32) (μ3 : MS) (H : Heap) (locs : List Loc) (ls : Array Slot), fX4_put_L3 K n x3_1 x3_2 μ3 = some μ' → va_P D CL (MP d o a μ3) H → va_D A (MP d o a μ3) → va_S A s.heap H locs → lv_has ls 3 [(0, .ref o), (1, .int x3_1), (2, .int x3_2)] → W p l e (rmc 0 0 0 0) s m args below meth c H locs 0 0 Q (F0 m 3 ls []) := by
    intro n
    induction n with
    | zero =>
      intro x3_1 x3_2 μ3 H locs ls hf hP hD hS hl
      rw [fX4_put_L3] at hf
      cases hf
    | succ n ih =>
      intro x3_1 x3_2 μ3 H locs ls hf hP hD hS hl
      rw [fX4_put_L3] at hf
      refine lv_iload_n hx hb dX4_put_3 rfl (lv_at hl 2 rfl) ?_
      refine lv_if_lt (tgt := 39) hx hb dX4_put_4 (by decide) (fun c_1 => ?_) (fun c_1 => ?_)
      · replace hf := it_t hf c_1
        clear c_1
        exact hret _ _ _ _ _ hf dX4_put_39 hP hD hS
      · replace hf := it_f hf c_1
        clear c_1
        refine lv_aload_n hx hb dX4_put_7 rfl (lv_at hl 0 rfl) ?_
        refine m_get S hK hP 17 (by decide) q1617 rfl dX4_put_8 ?_
        refine lv_aload_n hx hb dX4_put_11 rfl (lv_at hl 0 rfl) ?_
        refine m_get S hK hP 18 (by decide) q1618 rfl dX4_put_12 ?_
        refine lv_iload_n hx hb dX4_put_15 rfl (lv_at hl 1 rfl) ?_
        refine lv_iload_n hx hb dX4_put_16 rfl (lv_at hl 2 rfl) ?_
        refine lv_ishr hx hb dX4_put_17 ?_
        refine lv_sipush (v := 255) hx hb dX4_put_18 (by decide) ?_
        refine lv_iand hx hb dX4_put_21 ?_
        obtain ⟨g_2, hf⟩ := ga_some hf
        refine m_ist S hK hP hD hS 17 8 rfl g_2 rfl dX4_put_22 ?_
        clear hP hD hS
        intro μ_3 e_ H locs hP hD hS
        replace hf := nm_some hf μ_3 e_
        clear e_
        clear g_2
        refine lv_aload_n hx hb dX4_put_23 rfl (lv_at hl 0 rfl) ?_
        refine lv_dup hx hb dX4_put_24 rfl ?_
        refine m_get S hK hP 18 (by decide) q1618 rfl dX4_put_25 ?_
        refine lv_iconst (v := 1) hx hb dX4_put_28 (by decide) ?_
        refine lv_iadd hx hb dX4_put_29 ?_
        refine m_putI S hK hP hD hS 18 (by decide) q1618 rfl rfl rfl rfl rfl dX4_put_30 ?_
        clear hP hD hS
        intro μ_4 e_ H locs hP hD hS
        replace hf := nm_some hf μ_4 e_
        clear e_
        refine lv_iinc (v := x3_2 + (-8 : Int32)) (lv' := [(2, .int (x3_2 + (-8 : Int32))), (0, .ref o), (1, .int x3_1)]) hx hb dX4_put_33 hl (k := 2) rfl rfl (by decide) rfl (fun ls hl => ?_)
        refine lv_goto (tgt := 3) hx hb dX4_put_36 (by decide) ?_
        exact ih x3_1 (x3_2 + (-8 : Int32)) μ_4 _ _ _ hf hP hD hS (lv_sub hl [1, 2, 0] rfl)
  unfold fX4_put at hf
  refine lv_bipush (v := 24) hx hb dX4_put_0 (by decide) ?_
  refine lv_istore_n (lv' := [(2, .int (24 : Int32)), (0, .ref o), (1, .int p0)]) hx hb dX4_put_2 rfl hl (by decide) rfl (fun ls hl => ?_)
  exact L3 K p0 (24 : Int32) μ _ _ _ hf hP hD hS (lv_sub hl [1, 2, 0] rfl)
def fX4_append (K : Nat) (p0 : Int32) (p1 : Int32) (p2 : Int32) (p3 : Int32) (p4 : Int32) (μ : MS) : Option (Int32 × MS) :=
  if ((μ.1 18) + (20 : Int32)) ≤ (500 : Int32) then
    b1 (fX4_put K p0 μ) fun μ_2 =>
    b1 (fX4_put K p1 μ_2) fun μ_4 =>
    b1 (fX4_put K p2 μ_4) fun μ_6 =>
    b1 (fX4_put K p3 μ_6) fun μ_8 =>
    b1 (fX4_put K p4 μ_8) fun μ_10 =>
    some (μ_10.1 18, μ_10)
  else
    some ((-2 : Int32), μ)
set_option maxHeartbeats 4000000 in
set_option maxRecDepth 100000 in
theorem tX4_append (l : Launch) (D : va_G) (d : Nat → ClassId) (z : ZT) (o : Nat) (a : Nat → Nat) (K : Nat) (p0 : Int32) (p1 : Int32) (p2 : Int32) (p3 : Int32) (p4 : Int32) (μ : MS) (r : Int32) (μ' : MS) (hf : fX4_append K p0 p1 p2 p3 p4 μ = some (r, μ')) : CI l yX4_append (ws_ yX4_append cX4_append 6 (Option.some Jvm.ClassFile.FieldType.int)) (rmc 1 0 0 22) D d z [.ref o, .int p0, .int p1, .int p2, .int p3, .int p4] (MP d o a μ) r (MP d o a μ') := by
  refine mI_of rfl (by decide) (Nat.le_of_ble_eq_true rfl) ?_
  intro p e s m args below meth c A Q ls S hK hP hD hZ hS hA hl hret
  have hx := S.1
  have hb := S.2.1
  have hts := S.2.2.2.2
  have hl : lv_has ls 6 [(0, .ref o), (1, .int p0), (2, .int p1), (3, .int p2), (4, .int p3), (5, .int p4)] := hl
  unfold fX4_append at hf
  refine lv_aload_n hx hb dX4_append_0 rfl (lv_at hl 0 rfl) ?_
  refine m_get S hK hP 18 (by decide) q1618 rfl dX4_append_1 ?_
  refine lv_bipush (v := 20) hx hb dX4_append_4 (by decide) ?_
  refine lv_iadd hx hb dX4_append_6 ?_
  refine lv_sipush (v := 500) hx hb dX4_append_7 (by decide) ?_
  refine lv_icmp_le (tgt := 16) hx hb dX4_append_10 (by decide) (fun c_1 => ?_) (fun c_1 => ?_)
  · replace hf := it_t hf c_1
    clear c_1
    refine lv_aload_n hx hb dX4_append_16 rfl (lv_at hl 0 rfl) ?_
    refine lv_iload_n hx hb dX4_append_17 rfl (lv_at hl 1 rfl) ?_
    obtain ⟨μ_2, h_3, hf⟩ := b1_some hf
    refine cv_call S hK hP hD hZ hS hA (tX4_put l D d z o a K p0 μ _ h_3) (cwV 1 hts (lw_V q1746 q1748 qs49 q101 q1749) rfl rfl rfl (by decide +kernel) ⟨Nat.le_of_ble_eq_true rfl, Nat.le_of_ble_eq_true rfl⟩) (ci := 0) (q0 := 0) rfl rfl rfl hl.1 rfl (Nat.le_of_ble_eq_true rfl) ⟨Nat.le_of_ble_eq_true rfl, Nat.le_of_ble_eq_true rfl⟩ dX4_append_18 ?_
    clear hP hD hS
    intro H locs hP hD hS
    clear h_3
    refine lv_aload_n hx hb dX4_append_21 rfl (lv_at hl 0 rfl) ?_
    refine lv_iload_n hx hb dX4_append_22 rfl (lv_at hl 2 rfl) ?_
    obtain ⟨μ_4, h_5, hf⟩ := b1_some hf
    refine cv_call S hK hP hD hZ hS hA (tX4_put l D d z o a K p1 μ_2 _ h_5) (cwV 1 hts (lw_V q1746 q1748 qs49 q101 q1749) rfl rfl rfl (by decide +kernel) ⟨Nat.le_of_ble_eq_true rfl, Nat.le_of_ble_eq_true rfl⟩) (ci := 0) (q0 := 0) rfl rfl rfl hl.1 rfl (Nat.le_of_ble_eq_true rfl) ⟨Nat.le_of_ble_eq_true rfl, Nat.le_of_ble_eq_true rfl⟩ dX4_append_23 ?_
    clear hP hD hS
    intro H locs hP hD hS
    clear h_5
    refine lv_aload_n hx hb dX4_append_26 rfl (lv_at hl 0 rfl) ?_
    refine lv_iload_n hx hb dX4_append_27 rfl (lv_at hl 3 rfl) ?_
    obtain ⟨μ_6, h_7, hf⟩ := b1_some hf
    refine cv_call S hK hP hD hZ hS hA (tX4_put l D d z o a K p2 μ_4 _ h_7) (cwV 1 hts (lw_V q1746 q1748 qs49 q101 q1749) rfl rfl rfl (by decide +kernel) ⟨Nat.le_of_ble_eq_true rfl, Nat.le_of_ble_eq_true rfl⟩) (ci := 0) (q0 := 0) rfl rfl rfl hl.1 rfl (Nat.le_of_ble_eq_true rfl) ⟨Nat.le_of_ble_eq_true rfl, Nat.le_of_ble_eq_true rfl⟩ dX4_append_28 ?_
    clear hP hD hS
    intro H locs hP hD hS
    clear h_7
    refine lv_aload_n hx hb dX4_append_31 rfl (lv_at hl 0 rfl) ?_
    refine lv_iload hx hb dX4_append_32 (lv_at hl 4 rfl) ?_
    obtain ⟨μ_8, h_9, hf⟩ := b1_some hf
    refine cv_call S hK hP hD hZ hS hA (tX4_put l D d z o a K p3 μ_6 _ h_9) (cwV 1 hts (lw_V q1746 q1748 qs49 q101 q1749) rfl rfl rfl (by decide +kernel) ⟨Nat.le_of_ble_eq_true rfl, Nat.le_of_ble_eq_true rfl⟩) (ci := 0) (q0 := 0) rfl rfl rfl hl.1 rfl (Nat.le_of_ble_eq_true rfl) ⟨Nat.le_of_ble_eq_true rfl, Nat.le_of_ble_eq_true rfl⟩ dX4_append_34 ?_
    clear hP hD hS
    intro H locs hP hD hS
    clear h_9
    refine lv_aload_n hx hb dX4_append_37 rfl (lv_at hl 0 rfl) ?_
    refine lv_iload hx hb dX4_append_38 (lv_at hl 5 rfl) ?_
    obtain ⟨μ_10, h_11, hf⟩ := b1_some hf
    refine cv_call S hK hP hD hZ hS hA (tX4_put l D d z o a K p4 μ_8 _ h_11) (cwV 1 hts (lw_V q1746 q1748 qs49 q101 q1749) rfl rfl rfl (by decide +kernel) ⟨Nat.le_of_ble_eq_true rfl, Nat.le_of_ble_eq_true rfl⟩) (ci := 0) (q0 := 0) rfl rfl rfl hl.1 rfl (Nat.le_of_ble_eq_true rfl) ⟨Nat.le_of_ble_eq_true rfl, Nat.le_of_ble_eq_true rfl⟩ dX4_append_40 ?_
    clear hP hD hS
    intro H locs hP hD hS
    clear h_11
    refine lv_aload_n hx hb dX4_append_43 rfl (lv_at hl 0 rfl) ?_
    refine m_get S hK hP 18 (by decide) q1618 rfl dX4_append_44 ?_
    exact hret _ _ _ _ _ _ hf dX4_append_47 hP hD hS
  · replace hf := it_f hf c_1
    clear c_1
    refine lv_bipush (v := -2) hx hb dX4_append_13 (by decide) ?_
    exact hret _ _ _ _ _ _ hf dX4_append_15 hP hD hS
def fX4_truncate (K : Nat) (p0 : Int32) (μ : MS) : Option (Int32 × MS) :=
  b1 (fX4_isIn K p0.toInt64 (0 : Int64) ((μ.1 18).toInt64)) fun r_1 =>
  if r_1 = true then
    nm (sI μ 18 p0) fun μ_4 =>
    some (μ_4.1 18, μ_4)
  else
    some ((-1 : Int32), μ)
set_option maxHeartbeats 4000000 in
set_option maxRecDepth 100000 in
theorem tX4_truncate (l : Launch) (D : va_G) (d : Nat → ClassId) (z : ZT) (o : Nat) (a : Nat → Nat) (K : Nat) (p0 : Int32) (μ : MS) (r : Int32) (μ' : MS) (hf : fX4_truncate K p0 μ = some (r, μ')) : CI l yX4_truncate (ws_ yX4_truncate cX4_truncate 2 (Option.some Jvm.ClassFile.FieldType.int)) (rmc 1 0 0 25) D d z [.ref o, .int p0] (MP d o a μ) r (MP d o a μ') := by
  refine mI_of rfl (by decide) (Nat.le_of_ble_eq_true rfl) ?_
  intro p e s m args below meth c A Q ls S hK hP hD hZ hS hA hl hret
  have hx := S.1
  have hb := S.2.1
  have hts := S.2.2.2.2
  have hl : lv_has ls 2 [(0, .ref o), (1, .int p0)] := hl
  unfold fX4_truncate at hf
  refine lv_iload_n hx hb dX4_truncate_0 rfl (lv_at hl 1 rfl) ?_
  refine lv_i2l (v := p0.toInt64) hx hb dX4_truncate_1 rfl ?_
  refine lv_lconst (v := 0) hx hb dX4_truncate_2 (by decide) ?_
  refine lv_aload_n hx hb dX4_truncate_3 rfl (lv_at hl 0 rfl) ?_
  refine m_get S hK hP 18 (by decide) q1618 rfl dX4_truncate_4 ?_
  refine lv_i2l (v := (μ.1 18).toInt64) hx hb dX4_truncate_7 rfl ?_
  obtain ⟨r_1, h_2, hf⟩ := b1_some hf
  refine si_call S (tX4_isIn l K p0.toInt64 (0 : Int64) ((μ.1 18).toInt64) _ h_2) (va_cwS 3 hts (lw_S q1754 q1755 q101 q1756) rfl rfl rfl (by decide +kernel) ⟨Nat.le_of_ble_eq_true rfl, Nat.le_of_ble_eq_true rfl⟩) rfl hl.1 rfl (Nat.le_of_ble_eq_true rfl) ⟨Nat.le_of_ble_eq_true rfl, Nat.le_of_ble_eq_true rfl⟩ dX4_truncate_8 ?_
  clear h_2
  refine lv_if_ne (tgt := 16) hx hb dX4_truncate_11 (by decide) (fun c_3 => ?_) (fun c_3 => ?_)
  · replace hf := it_t hf (bi_n0 c_3)
    clear c_3
    refine lv_aload_n hx hb dX4_truncate_16 rfl (lv_at hl 0 rfl) ?_
    refine lv_iload_n hx hb dX4_truncate_17 rfl (lv_at hl 1 rfl) ?_
    refine m_putI S hK hP hD hS 18 (by decide) q1618 rfl rfl rfl rfl rfl dX4_truncate_18 ?_
    clear hP hD hS
    intro μ_4 e_ H locs hP hD hS
    replace hf := nm_some hf μ_4 e_
    clear e_
    refine lv_aload_n hx hb dX4_truncate_21 rfl (lv_at hl 0 rfl) ?_
    refine m_get S hK hP 18 (by decide) q1618 rfl dX4_truncate_22 ?_
    exact hret _ _ _ _ _ _ hf dX4_truncate_25 hP hD hS
  · replace hf := it_f hf (bi_e0 c_3)
    clear c_3
    refine lv_iconst (v := -1) hx hb dX4_truncate_14 (by decide) ?_
    exact hret _ _ _ _ _ _ hf dX4_truncate_15 hP hD hS
def fX4_byteAt (K : Nat) (p0 : Int32) (μ : MS) : Option (Int32 × MS) :=
  if (μ.1 19) ≤ p0 then
    some ((-1 : Int32), μ)
  else
    ga (ix p0 500) <|
    some (μ.2.2 17 p0.toNatClampNeg, μ)
set_option maxHeartbeats 4000000 in
set_option maxRecDepth 100000 in
theorem tX4_byteAt (l : Launch) (D : va_G) (d : Nat → ClassId) (z : ZT) (o : Nat) (a : Nat → Nat) (K : Nat) (p0 : Int32) (μ : MS) (r : Int32) (μ' : MS) (hf : fX4_byteAt K p0 μ = some (r, μ')) : CI l yX4_byteAt (ws_ yX4_byteAt cX4_byteAt 2 (Option.some Jvm.ClassFile.FieldType.int)) (rmc 0 0 0 0) D d z [.ref o, .int p0] (MP d o a μ) r (MP d o a μ') := by
  refine mI_of rfl (by decide) (Nat.le_of_ble_eq_true rfl) ?_
  intro p e s m args below meth c A Q ls S hK hP hD hZ hS hA hl hret
  have hx := S.1
  have hb := S.2.1
  have hts := S.2.2.2.2
  have hl : lv_has ls 2 [(0, .ref o), (1, .int p0)] := hl
  unfold fX4_byteAt at hf
  refine lv_iload_n hx hb dX4_byteAt_0 rfl (lv_at hl 1 rfl) ?_
  refine lv_aload_n hx hb dX4_byteAt_1 rfl (lv_at hl 0 rfl) ?_
  refine m_get S hK hP 19 (by decide) q1619 rfl dX4_byteAt_2 ?_
  refine lv_icmp_ge (tgt := 17) hx hb dX4_byteAt_5 (by decide) (fun c_1 => ?_) (fun c_1 => ?_)
  · replace hf := it_t hf c_1
    clear c_1
    refine lv_iconst (v := -1) hx hb dX4_byteAt_17 (by decide) ?_
    exact hret _ _ _ _ _ _ hf dX4_byteAt_18 hP hD hS
  · replace hf := it_f hf c_1
    clear c_1
    refine lv_aload_n hx hb dX4_byteAt_8 rfl (lv_at hl 0 rfl) ?_
    refine m_get S hK hP 17 (by decide) q1617 rfl dX4_byteAt_9 ?_
    refine lv_iload_n hx hb dX4_byteAt_12 rfl (lv_at hl 1 rfl) ?_
    obtain ⟨g_2, hf⟩ := ga_some hf
    refine m_ild S hK hP 17 8 rfl g_2 dX4_byteAt_13 ?_
    clear g_2
    refine lv_goto (tgt := 18) hx hb dX4_byteAt_14 (by decide) ?_
    exact hret _ _ _ _ _ _ hf dX4_byteAt_18 hP hD hS
def fX4_isLetterAt (K : Nat) (p0 : Int32) (μ : MS) : Option (Bool × MS) :=
  b2 (fX4_byteAt K p0 μ) fun r_3 μ_1 =>
  b1 (fX4_isIn K r_3.toInt64 (97 : Int64) (122 : Int64)) fun r_4 =>
  some (r_4, μ_1)
set_option maxHeartbeats 4000000 in
set_option maxRecDepth 100000 in
theorem tX4_isLetterAt (l : Launch) (D : va_G) (d : Nat → ClassId) (z : ZT) (o : Nat) (a : Nat → Nat) (K : Nat) (p0 : Int32) (μ : MS) (r : Bool) (μ' : MS) (hf : fX4_isLetterAt K p0 μ = some (r, μ')) : CI l yX4_isLetterAt (ws_ yX4_isLetterAt cX4_isLetterAt 2 (Option.some Jvm.ClassFile.FieldType.boolean)) (rmc 1 0 0 25) D d z [.ref o, .int p0] (MP d o a μ) (bi r) (MP d o a μ') := by
  refine mZ_of rfl (by decide) (Nat.le_of_ble_eq_true rfl) ?_
  intro p e s m args below meth c A Q ls S hK hP hD hZ hS hA hl hret
  have hx := S.1
  have hb := S.2.1
  have hts := S.2.2.2.2
  have hl : lv_has ls 2 [(0, .ref o), (1, .int p0)] := hl
  unfold fX4_isLetterAt at hf
  refine lv_aload_n hx hb dX4_isLetterAt_0 rfl (lv_at hl 0 rfl) ?_
  refine lv_iload_n hx hb dX4_isLetterAt_1 rfl (lv_at hl 1 rfl) ?_
  obtain ⟨r_3, μ_1, h_2, hf⟩ := b2_some hf
  refine ci_call S hK hP hD hZ hS hA (tX4_byteAt l D d z o a K p0 μ _ _ h_2) (cwV 1 hts (lw_V q1773 q1775 qs53 q101 q1776) rfl rfl rfl (by decide +kernel) ⟨Nat.le_of_ble_eq_true rfl, Nat.le_of_ble_eq_true rfl⟩) (ci := 0) (q0 := 0) rfl rfl rfl hl.1 rfl (Nat.le_of_ble_eq_true rfl) ⟨Nat.le_of_ble_eq_true rfl, Nat.le_of_ble_eq_true rfl⟩ dX4_isLetterAt_2 ?_
  clear hP hD hS
  intro H locs hP hD hS
  clear h_2
  refine lv_i2l (v := r_3.toInt64) hx hb dX4_isLetterAt_5 rfl ?_
  refine lv_ldc2 hx hb S.2.2.2.1 (hts _ q1781) dX4_isLetterAt_6 ?_
  refine lv_ldc2 hx hb S.2.2.2.1 (hts _ q1782) dX4_isLetterAt_9 ?_
  obtain ⟨r_4, h_5, hf⟩ := b1_some hf
  refine si_call S (tX4_isIn l K r_3.toInt64 (97 : Int64) (122 : Int64) _ h_5) (va_cwS 3 hts (lw_S q1754 q1755 q101 q1756) rfl rfl rfl (by decide +kernel) ⟨Nat.le_of_ble_eq_true rfl, Nat.le_of_ble_eq_true rfl⟩) rfl hl.1 rfl (Nat.le_of_ble_eq_true rfl) ⟨Nat.le_of_ble_eq_true rfl, Nat.le_of_ble_eq_true rfl⟩ dX4_isLetterAt_12 ?_
  clear h_5
  exact hret _ _ _ _ _ _ hf dX4_isLetterAt_15 hP hD hS
def fX4_isDigitAt (K : Nat) (p0 : Int32) (μ : MS) : Option (Bool × MS) :=
  b2 (fX4_byteAt K p0 μ) fun r_3 μ_1 =>
  b1 (fX4_isIn K r_3.toInt64 (48 : Int64) (57 : Int64)) fun r_4 =>
  some (r_4, μ_1)
set_option maxHeartbeats 4000000 in
set_option maxRecDepth 100000 in
theorem tX4_isDigitAt (l : Launch) (D : va_G) (d : Nat → ClassId) (z : ZT) (o : Nat) (a : Nat → Nat) (K : Nat) (p0 : Int32) (μ : MS) (r : Bool) (μ' : MS) (hf : fX4_isDigitAt K p0 μ = some (r, μ')) : CI l yX4_isDigitAt (ws_ yX4_isDigitAt cX4_isDigitAt 2 (Option.some Jvm.ClassFile.FieldType.boolean)) (rmc 1 0 0 25) D d z [.ref o, .int p0] (MP d o a μ) (bi r) (MP d o a μ') := by
  refine mZ_of rfl (by decide) (Nat.le_of_ble_eq_true rfl) ?_
  intro p e s m args below meth c A Q ls S hK hP hD hZ hS hA hl hret
  have hx := S.1
  have hb := S.2.1
  have hts := S.2.2.2.2
  have hl : lv_has ls 2 [(0, .ref o), (1, .int p0)] := hl
  unfold fX4_isDigitAt at hf
  refine lv_aload_n hx hb dX4_isDigitAt_0 rfl (lv_at hl 0 rfl) ?_
  refine lv_iload_n hx hb dX4_isDigitAt_1 rfl (lv_at hl 1 rfl) ?_
  obtain ⟨r_3, μ_1, h_2, hf⟩ := b2_some hf
  refine ci_call S hK hP hD hZ hS hA (tX4_byteAt l D d z o a K p0 μ _ _ h_2) (cwV 1 hts (lw_V q1773 q1775 qs53 q101 q1776) rfl rfl rfl (by decide +kernel) ⟨Nat.le_of_ble_eq_true rfl, Nat.le_of_ble_eq_true rfl⟩) (ci := 0) (q0 := 0) rfl rfl rfl hl.1 rfl (Nat.le_of_ble_eq_true rfl) ⟨Nat.le_of_ble_eq_true rfl, Nat.le_of_ble_eq_true rfl⟩ dX4_isDigitAt_2 ?_
  clear hP hD hS
  intro H locs hP hD hS
  clear h_2
  refine lv_i2l (v := r_3.toInt64) hx hb dX4_isDigitAt_5 rfl ?_
  refine lv_ldc2 hx hb S.2.2.2.1 (hts _ q1787) dX4_isDigitAt_6 ?_
  refine lv_ldc2 hx hb S.2.2.2.1 (hts _ q1788) dX4_isDigitAt_9 ?_
  obtain ⟨r_4, h_5, hf⟩ := b1_some hf
  refine si_call S (tX4_isIn l K r_3.toInt64 (48 : Int64) (57 : Int64) _ h_5) (va_cwS 3 hts (lw_S q1754 q1755 q101 q1756) rfl rfl rfl (by decide +kernel) ⟨Nat.le_of_ble_eq_true rfl, Nat.le_of_ble_eq_true rfl⟩) rfl hl.1 rfl (Nat.le_of_ble_eq_true rfl) ⟨Nat.le_of_ble_eq_true rfl, Nat.le_of_ble_eq_true rfl⟩ dX4_isDigitAt_12 ?_
  clear h_5
  exact hret _ _ _ _ _ _ hf dX4_isDigitAt_15 hP hD hS
def fX4_readNumber_L108 (K : Nat) (x108_2 : Int32) (μ108 : MS) : Option MS :=
  b1 (fX4_isIn K x108_2.toInt64 (1 : Int64) (5 : Int64)) fun r_12 =>
  if r_12 = true then
    nm (sI μ108 22 (3 : Int32)) fun μ_16 =>
    some μ_16
  else
    nm (sI μ108 22 (1 : Int32)) fun μ_15 =>
    some μ_15
def fX4_readNumber_L79 (K : Nat) (k40 : Int32 → Int32 → MS → Option MS) (x79_1 : Int32) (x79_2 : Int32) (μ79 : MS) : Option MS :=
  nm (sI μ79 20 ((μ79.1 20) + (1 : Int32))) fun μ_19 =>
  k40 x79_1 (x79_2 + (1 : Int32)) μ_19
def fX4_readNumber_L40 (K : Nat) : Nat → Int32 → Int32 → MS → Option MS
  | 0, _, _, _ => none
  | n + 1, x40_1, x40_2, μ40 =>
    b2 (fX4_isDigitAt K (μ40.1 20) μ40) fun r_9 μ_7 =>
    if r_9 = true then
      if (5 : Int32) ≤ x40_2 then
        fX4_readNumber_L79 K (fX4_readNumber_L40 K n) x40_1 x40_2 μ_7
      else
        b2 (fX4_byteAt K (μ_7.1 20) μ_7) fun r_22 μ_20 =>
        nm (sI μ_20 23 ((((10 : Int32) * (μ_7.1 23)) + r_22) - (48 : Int32))) fun μ_23 =>
        fX4_readNumber_L79 K (fX4_readNumber_L40 K n) x40_1 x40_2 μ_23
    else
      if x40_1 = 0 then
        fX4_readNumber_L108 K x40_2 μ_7
      else
        nm (sI μ_7 23 (-(μ_7.1 23))) fun μ_17 =>
        fX4_readNumber_L108 K x40_2 μ_17
def fX4_readNumber_L33 (K : Nat) (x33_1 : Int32) (μ33 : MS) : Option MS :=
  nm (sI μ33 23 (0 : Int32)) fun μ_6 =>
  fX4_readNumber_L40 K K x33_1 (0 : Int32) μ_6
def fX4_readNumber_L18 (K : Nat) (t18_0 : Int32) (μ18 : MS) : Option MS :=
  if t18_0 = 0 then
    fX4_readNumber_L33 K t18_0 μ18
  else
    nm (sI μ18 20 ((μ18.1 20) + (1 : Int32))) fun μ_24 =>
    fX4_readNumber_L33 K t18_0 μ_24
def fX4_readNumber (K : Nat) (μ : MS) : Option MS :=
  b2 (fX4_byteAt K (μ.1 20) μ) fun r_3 μ_1 =>
  if r_3 = (45 : Int32) then
    fX4_readNumber_L18 K (1 : Int32) μ_1
  else
    fX4_readNumber_L18 K (0 : Int32) μ_1
set_option maxHeartbeats 4000000 in
set_option maxRecDepth 100000 in
theorem tX4_readNumber (l : Launch) (D : va_G) (d : Nat → ClassId) (z : ZT) (o : Nat) (a : Nat → Nat) (K : Nat) (μ : MS) (μ' : MS) (hf : fX4_readNumber K μ = some μ') : CV l yX4_readNumber (ws_ yX4_readNumber cX4_readNumber 3 (Option.none : Option Jvm.ClassFile.FieldType)) (rmc 2 0 0 46) D d z [.ref o] (MP d o a μ) (MP d o a μ') := by
  refine mV_of rfl (by decide) (Nat.le_of_ble_eq_true rfl) ?_
  intro p e s m args below meth c A Q ls S hK hP hD hZ hS hA hl hret
  have hx := S.1
  have hb := S.2.1
  have hts := S.2.2.2.2
  have hl : lv_has ls 3 [(0, .ref o)] := hl
  have L108 : ∀ (x108_2 : Int32) (μ108 : MS) (H : Heap) (locs : List Loc) (ls : Array Slot), fX4_readNumber_L108 K x108_2 μ108 = some μ' → va_P D CL (MP d o a μ108) H → va_D A (MP d o a μ108) → va_S A s.heap H locs → lv_has ls 3 [(0, .ref o), (2, .int x108_2)] → W p l e (rmc 2 0 0 46) s m args below meth c H locs 0 0 Q (F0 m 108 ls []) := by
    intro x108_2 μ108 H locs ls hf hP hD hS hl
    unfold fX4_readNumber_L108 at hf
    refine lv_aload_n hx hb dX4_readNumber_108 rfl (lv_at hl 0 rfl) ?_
    refine lv_iload_n hx hb dX4_readNumber_109 rfl (lv_at hl 1 rfl) ?_
    refine lv_i2l (v := x108_2.toInt64) hx hb dX4_readNumber_110 rfl ?_
    refine lv_lconst (v := 1) hx hb dX4_readNumber_111 (by decide) ?_
    refine lv_ldc2 hx hb S.2.2.2.1 (hts _ q1793) dX4_readNumber_112 ?_
    obtain ⟨r_12, h_13, hf⟩ := b1_some hf
    refine si_call S (tX4_isIn l K x108_2.toInt64 (1 : Int64) (5 : Int64) _ h_13) (va_cwS 3 hts (lw_S q1754 q1755 q101 q1756) rfl rfl rfl (by decide +kernel) ⟨Nat.le_of_ble_eq_true rfl, Nat.le_of_ble_eq_true rfl⟩) rfl hl.1 rfl (Nat.le_of_ble_eq_true rfl) ⟨Nat.le_of_ble_eq_true rfl, Nat.le_of_ble_eq_true rfl⟩ dX4_readNumber_115 ?_
    clear h_13
    refine lv_if_eq (tgt := 125) hx hb dX4_readNumber_118 (by decide) (fun c_14 => ?_) (fun c_14 => ?_)
    · replace hf := it_f hf (bi_e0 c_14)
      clear c_14
      refine lv_iconst (v := 1) hx hb dX4_readNumber_125 (by decide) ?_
      refine m_putI S hK hP hD hS 22 (by decide) q1622 rfl rfl rfl rfl rfl dX4_readNumber_126 ?_
      clear hP hD hS
      intro μ_15 e_ H locs hP hD hS
      replace hf := nm_some hf μ_15 e_
      clear e_
      exact hret _ _ _ _ _ hf dX4_readNumber_129 hP hD hS
    · replace hf := it_t hf (bi_n0 c_14)
      clear c_14
      refine lv_iconst (v := 3) hx hb dX4_readNumber_121 (by decide) ?_
      refine lv_goto (tgt := 126) hx hb dX4_readNumber_122 (by decide) ?_
      refine m_putI S hK hP hD hS 22 (by decide) q1622 rfl rfl rfl rfl rfl dX4_readNumber_126 ?_
      clear hP hD hS
      intro μ_16 e_ H locs hP hD hS
      replace hf := nm_some hf μ_16 e_
      clear e_
      exact hret _ _ _ _ _ hf dX4_readNumber_129 hP hD hS
  have L40 : ∀ (n : Nat) (x40_1 : Int32) (x40_2 : Int32) (μ40 : MS) (H : Heap) (locs : List Loc) (ls : Array Slot), fX4_readNumber_L40 K n x40_1 x40_2 μ40 = some μ' → va_P D CL (MP d o a μ40) H → va_D A (MP d o a μ40) → va_S A s.heap H locs → lv_has ls 3 [(0, .ref o), (1, .int x40_1), (2, .int x40_2)] → W p l e (rmc 2 0 0 46) s m args below meth c H locs 0 0 Q (F0 m 40 ls []) := by
    intro n
    induction n with
    | zero =>
      intro x40_1 x40_2 μ40 H locs ls hf hP hD hS hl
      rw [fX4_readNumber_L40] at hf
      cases hf
    | succ n ih =>
      have ih40 := ih
      have L79 : ∀ (x79_1 : Int32) (x79_2 : Int32) (μ79 : MS) (H : Heap) (locs : List Loc) (ls : Array Slot), fX4_readNumber_L79 K (fX4_readNumber_L40 K n) x79_1 x79_2 μ79 = some μ' → va_P D CL (MP d o a μ79) H → va_D A (MP d o a μ79) → va_S A s.heap H locs → lv_has ls 3 [(0, .ref o), (1, .int x79_1), (2, .int x79_2)] → W p l e (rmc 2 0 0 46) s m args below meth c H locs 0 0 Q (F0 m 79 ls []) := by
        intro x79_1 x79_2 μ79 H locs ls hf hP hD hS hl
        unfold fX4_readNumber_L79 at hf
        refine lv_iinc (v := x79_2 + (1 : Int32)) (lv' := [(2, .int (x79_2 + (1 : Int32))), (0, .ref o), (1, .int x79_1)]) hx hb dX4_readNumber_79 hl (k := 2) rfl rfl (by decide) rfl (fun ls hl => ?_)
        refine lv_aload_n hx hb dX4_readNumber_82 rfl (lv_at hl 1 rfl) ?_
        refine lv_dup hx hb dX4_readNumber_83 rfl ?_
        refine m_get S hK hP 20 (by decide) q1620 rfl dX4_readNumber_84 ?_
        refine lv_iconst (v := 1) hx hb dX4_readNumber_87 (by decide) ?_
        refine lv_iadd hx hb dX4_readNumber_88 ?_
        refine m_putI S hK hP hD hS 20 (by decide) q1620 rfl rfl rfl rfl rfl dX4_readNumber_89 ?_
        clear hP hD hS
        intro μ_19 e_ H locs hP hD hS
        replace hf := nm_some hf μ_19 e_
        clear e_
        refine lv_goto (tgt := 40) hx hb dX4_readNumber_92 (by decide) ?_
        exact ih40 x79_1 (x79_2 + (1 : Int32)) μ_19 _ _ _ hf hP hD hS (lv_sub hl [1, 2, 0] rfl)
      intro x40_1 x40_2 μ40 H locs ls hf hP hD hS hl
      rw [fX4_readNumber_L40] at hf
      refine lv_aload_n hx hb dX4_readNumber_40 rfl (lv_at hl 0 rfl) ?_
      refine lv_aload_n hx hb dX4_readNumber_41 rfl (lv_at hl 0 rfl) ?_
      refine m_get S hK hP 20 (by decide) q1620 rfl dX4_readNumber_42 ?_
      obtain ⟨r_9, μ_7, h_8, hf⟩ := b2_some hf
      refine ci_call S hK hP hD hZ hS hA (tX4_isDigitAt l D d z o a K (μ40.1 20) μ40 _ _ h_8) (cwV 1 hts (lw_V q1783 q1785 qs55 q101 q1786) rfl rfl rfl (by decide +kernel) ⟨Nat.le_of_ble_eq_true rfl, Nat.le_of_ble_eq_true rfl⟩) (ci := 0) (q0 := 0) rfl rfl rfl hl.1 rfl (Nat.le_of_ble_eq_true rfl) ⟨Nat.le_of_ble_eq_true rfl, Nat.le_of_ble_eq_true rfl⟩ dX4_readNumber_45 ?_
      clear hP hD hS
      intro H locs hP hD hS
      clear h_8
      refine lv_if_eq (tgt := 95) hx hb dX4_readNumber_48 (by decide) (fun c_10 => ?_) (fun c_10 => ?_)
      · replace hf := it_f hf (bi_e0 c_10)
        clear c_10
        refine lv_iload_n hx hb dX4_readNumber_95 rfl (lv_at hl 1 rfl) ?_
        refine lv_if_eq (tgt := 108) hx hb dX4_readNumber_96 (by decide) (fun c_11 => ?_) (fun c_11 => ?_)
        · replace hf := it_t hf c_11
          clear c_11
          exact L108 x40_2 μ_7 _ _ _ hf hP hD hS (lv_sub hl [0, 2] rfl)
        · replace hf := it_f hf c_11
          clear c_11
          refine lv_aload_n hx hb dX4_readNumber_99 rfl (lv_at hl 0 rfl) ?_
          refine lv_aload_n hx hb dX4_readNumber_100 rfl (lv_at hl 0 rfl) ?_
          refine m_get S hK hP 23 (by decide) q1623 rfl dX4_readNumber_101 ?_
          refine lv_ineg hx hb dX4_readNumber_104 ?_
          refine m_putI S hK hP hD hS 23 (by decide) q1623 rfl rfl rfl rfl rfl dX4_readNumber_105 ?_
          clear hP hD hS
          intro μ_17 e_ H locs hP hD hS
          replace hf := nm_some hf μ_17 e_
          clear e_
          exact L108 x40_2 μ_17 _ _ _ hf hP hD hS (lv_sub hl [0, 2] rfl)
      · replace hf := it_t hf (bi_n0 c_10)
        clear c_10
        refine lv_iload_n hx hb dX4_readNumber_51 rfl (lv_at hl 2 rfl) ?_
        refine lv_iconst (v := 5) hx hb dX4_readNumber_52 (by decide) ?_
        refine lv_icmp_ge (tgt := 79) hx hb dX4_readNumber_53 (by decide) (fun c_18 => ?_) (fun c_18 => ?_)
        · replace hf := it_t hf c_18
          clear c_18
          exact L79 x40_1 x40_2 μ_7 _ _ _ hf hP hD hS (lv_sub hl [0, 1, 2] rfl)
        · replace hf := it_f hf c_18
          clear c_18
          refine lv_aload_n hx hb dX4_readNumber_56 rfl (lv_at hl 0 rfl) ?_
          refine lv_bipush (v := 10) hx hb dX4_readNumber_57 (by decide) ?_
          refine lv_aload_n hx hb dX4_readNumber_59 rfl (lv_at hl 0 rfl) ?_
          refine m_get S hK hP 23 (by decide) q1623 rfl dX4_readNumber_60 ?_
          refine lv_imul hx hb dX4_readNumber_63 ?_
          refine lv_aload_n hx hb dX4_readNumber_64 rfl (lv_at hl 0 rfl) ?_
          refine lv_aload_n hx hb dX4_readNumber_65 rfl (lv_at hl 0 rfl) ?_
          refine m_get S hK hP 20 (by decide) q1620 rfl dX4_readNumber_66 ?_
          obtain ⟨r_22, μ_20, h_21, hf⟩ := b2_some hf
          refine ci_call S hK hP hD hZ hS hA (tX4_byteAt l D d z o a K (μ_7.1 20) μ_7 _ _ h_21) (cwV 1 hts (lw_V q1773 q1775 qs53 q101 q1776) rfl rfl rfl (by decide +kernel) ⟨Nat.le_of_ble_eq_true rfl, Nat.le_of_ble_eq_true rfl⟩) (ci := 0) (q0 := 0) rfl rfl rfl hl.1 rfl (Nat.le_of_ble_eq_true rfl) ⟨Nat.le_of_ble_eq_true rfl, Nat.le_of_ble_eq_true rfl⟩ dX4_readNumber_69 ?_
          clear hP hD hS
          intro H locs hP hD hS
          clear h_21
          refine lv_iadd hx hb dX4_readNumber_72 ?_
          refine lv_bipush (v := 48) hx hb dX4_readNumber_73 (by decide) ?_
          refine lv_isub hx hb dX4_readNumber_75 ?_
          refine m_putI S hK hP hD hS 23 (by decide) q1623 rfl rfl rfl rfl rfl dX4_readNumber_76 ?_
          clear hP hD hS
          intro μ_23 e_ H locs hP hD hS
          replace hf := nm_some hf μ_23 e_
          clear e_
          exact L79 x40_1 x40_2 μ_23 _ _ _ hf hP hD hS (lv_sub hl [0, 1, 2] rfl)
  have L33 : ∀ (x33_1 : Int32) (μ33 : MS) (H : Heap) (locs : List Loc) (ls : Array Slot), fX4_readNumber_L33 K x33_1 μ33 = some μ' → va_P D CL (MP d o a μ33) H → va_D A (MP d o a μ33) → va_S A s.heap H locs → lv_has ls 3 [(0, .ref o), (1, .int x33_1)] → W p l e (rmc 2 0 0 46) s m args below meth c H locs 0 0 Q (F0 m 33 ls []) := by
    intro x33_1 μ33 H locs ls hf hP hD hS hl
    unfold fX4_readNumber_L33 at hf
    refine lv_iconst (v := 0) hx hb dX4_readNumber_33 (by decide) ?_
    refine lv_istore_n (lv' := [(2, .int (0 : Int32)), (0, .ref o), (1, .int x33_1)]) hx hb dX4_readNumber_34 rfl hl (by decide) rfl (fun ls hl => ?_)
    refine lv_aload_n hx hb dX4_readNumber_35 rfl (lv_at hl 1 rfl) ?_
    refine lv_iconst (v := 0) hx hb dX4_readNumber_36 (by decide) ?_
    refine m_putI S hK hP hD hS 23 (by decide) q1623 rfl rfl rfl rfl rfl dX4_readNumber_37 ?_
    clear hP hD hS
    intro μ_6 e_ H locs hP hD hS
    replace hf := nm_some hf μ_6 e_
    clear e_
    exact L40 K x33_1 (0 : Int32) μ_6 _ _ _ hf hP hD hS (lv_sub hl [1, 2, 0] rfl)
  have L18 : ∀ (t18_0 : Int32) (μ18 : MS) (H : Heap) (locs : List Loc) (ls : Array Slot), fX4_readNumber_L18 K t18_0 μ18 = some μ' → va_P D CL (MP d o a μ18) H → va_D A (MP d o a μ18) → va_S A s.heap H locs → lv_has ls 3 [(0, .ref o)] → W p l e (rmc 2 0 0 46) s m args below meth c H locs 0 0 Q (F0 m 18 ls [.int t18_0]) := by
    intro t18_0 μ18 H locs ls hf hP hD hS hl
    unfold fX4_readNumber_L18 at hf
    refine lv_istore_n (lv' := [(1, .int t18_0), (0, .ref o)]) hx hb dX4_readNumber_18 rfl hl (by decide) rfl (fun ls hl => ?_)
    refine lv_iload_n hx hb dX4_readNumber_19 rfl (lv_at hl 0 rfl) ?_
    refine lv_if_eq (tgt := 33) hx hb dX4_readNumber_20 (by decide) (fun c_5 => ?_) (fun c_5 => ?_)
    · replace hf := it_t hf c_5
      clear c_5
      exact L33 t18_0 μ18 _ _ _ hf hP hD hS (lv_sub hl [1, 0] rfl)
    · replace hf := it_f hf c_5
      clear c_5
      refine lv_aload_n hx hb dX4_readNumber_23 rfl (lv_at hl 1 rfl) ?_
      refine lv_dup hx hb dX4_readNumber_24 rfl ?_
      refine m_get S hK hP 20 (by decide) q1620 rfl dX4_readNumber_25 ?_
      refine lv_iconst (v := 1) hx hb dX4_readNumber_28 (by decide) ?_
      refine lv_iadd hx hb dX4_readNumber_29 ?_
      refine m_putI S hK hP hD hS 20 (by decide) q1620 rfl rfl rfl rfl rfl dX4_readNumber_30 ?_
      clear hP hD hS
      intro μ_24 e_ H locs hP hD hS
      replace hf := nm_some hf μ_24 e_
      clear e_
      exact L33 t18_0 μ_24 _ _ _ hf hP hD hS (lv_sub hl [1, 0] rfl)
  unfold fX4_readNumber at hf
  refine lv_aload_n hx hb dX4_readNumber_0 rfl (lv_at hl 0 rfl) ?_
  refine lv_aload_n hx hb dX4_readNumber_1 rfl (lv_at hl 0 rfl) ?_
  refine m_get S hK hP 20 (by decide) q1620 rfl dX4_readNumber_2 ?_
  obtain ⟨r_3, μ_1, h_2, hf⟩ := b2_some hf
  refine ci_call S hK hP hD hZ hS hA (tX4_byteAt l D d z o a K (μ.1 20) μ _ _ h_2) (cwV 1 hts (lw_V q1773 q1775 qs53 q101 q1776) rfl rfl rfl (by decide +kernel) ⟨Nat.le_of_ble_eq_true rfl, Nat.le_of_ble_eq_true rfl⟩) (ci := 0) (q0 := 0) rfl rfl rfl hl.1 rfl (Nat.le_of_ble_eq_true rfl) ⟨Nat.le_of_ble_eq_true rfl, Nat.le_of_ble_eq_true rfl⟩ dX4_readNumber_5 ?_
  clear hP hD hS
  intro H locs hP hD hS
  clear h_2
  refine lv_bipush (v := 45) hx hb dX4_readNumber_8 (by decide) ?_
  refine lv_icmp_ne (tgt := 17) hx hb dX4_readNumber_10 (by decide) (fun c_4 => ?_) (fun c_4 => ?_)
  · replace hf := it_f hf c_4
    clear c_4
    refine lv_iconst (v := 0) hx hb dX4_readNumber_17 (by decide) ?_
    exact L18 (0 : Int32) μ_1 _ _ _ hf hP hD hS (lv_sub hl [0] rfl)
  · replace hf := it_t hf c_4
    clear c_4
    refine lv_iconst (v := 1) hx hb dX4_readNumber_13 (by decide) ?_
    refine lv_goto (tgt := 18) hx hb dX4_readNumber_14 (by decide) ?_
    exact L18 (1 : Int32) μ_1 _ _ _ hf hP hD hS (lv_sub hl [0] rfl)
def fX4_isFine (K : Nat) (μ : MS) : Option (Bool × MS) :=
  if (μ.1 24) = 0 then
    some (true, μ)
  else
    some (false, μ)
set_option maxHeartbeats 4000000 in
set_option maxRecDepth 100000 in
theorem tX4_isFine (l : Launch) (D : va_G) (d : Nat → ClassId) (z : ZT) (o : Nat) (a : Nat → Nat) (K : Nat) (μ : MS) (r : Bool) (μ' : MS) (hf : fX4_isFine K μ = some (r, μ')) : CI l yX4_isFine (ws_ yX4_isFine cX4_isFine 1 (Option.some Jvm.ClassFile.FieldType.boolean)) (rmc 0 0 0 0) D d z [.ref o] (MP d o a μ) (bi r) (MP d o a μ') := by
  refine mZ_of rfl (by decide) (Nat.le_of_ble_eq_true rfl) ?_
  intro p e s m args below meth c A Q ls S hK hP hD hZ hS hA hl hret
  have hx := S.1
  have hb := S.2.1
  have hts := S.2.2.2.2
  have hl : lv_has ls 1 [(0, .ref o)] := hl
  unfold fX4_isFine at hf
  refine lv_aload_n hx hb dX4_isFine_0 rfl (lv_at hl 0 rfl) ?_
  refine m_get S hK hP 24 (by decide) q1624 rfl dX4_isFine_1 ?_
  refine lv_if_ne (tgt := 11) hx hb dX4_isFine_4 (by decide) (fun c_1 => ?_) (fun c_1 => ?_)
  · replace hf := it_f hf c_1
    clear c_1
    refine lv_iconst (v := 0) hx hb dX4_isFine_11 (by decide) ?_
    exact hret _ _ _ _ _ _ hf dX4_isFine_12 hP hD hS
  · replace hf := it_t hf c_1
    clear c_1
    refine lv_iconst (v := 1) hx hb dX4_isFine_7 (by decide) ?_
    refine lv_goto (tgt := 12) hx hb dX4_isFine_8 (by decide) ?_
    exact hret _ _ _ _ _ _ hf dX4_isFine_12 hP hD hS
def fX4_next_L34 (K : Nat) (k8 : MS → Option MS) (μ34 : MS) : Option MS :=
  nm (sI μ34 20 ((μ34.1 20) + (1 : Int32))) fun μ_9 =>
  k8 μ_9
def fX4_next_L167 (K : Nat) (t167_0 : Int32) (μ167 : MS) : Option MS :=
  nm (sI μ167 22 t167_0) fun μ_34 =>
  nm (sI μ_34 20 ((μ_34.1 20) + (1 : Int32))) fun μ_35 =>
  some μ_35
def fX4_next_L85 (K : Nat) : Nat → MS → Option MS
  | 0, _ => none
  | n + 1, μ85 =>
    b2 (fX4_isLetterAt K (μ85.1 20) μ85) fun r_40 μ_38 =>
    if r_40 = true then
      nm (sI μ_38 20 ((μ_38.1 20) + (1 : Int32))) fun μ_43 =>
      fX4_next_L85 K n μ_43
    else
      nm (sI μ_38 22 (2 : Int32)) fun μ_42 =>
      some μ_42
def fX4_next_L8 (K : Nat) : Nat → MS → Option MS
  | 0, _ => none
  | n + 1, μ8 =>
    b2 (fX4_byteAt K (μ8.1 20) μ8) fun r_7 μ_5 =>
    if r_7 = (32 : Int32) then
      fX4_next_L34 K (fX4_next_L8 K n) μ_5
    else
      b2 (fX4_byteAt K (μ_5.1 20) μ_5) fun r_12 μ_10 =>
      if r_12 = (10 : Int32) then
        fX4_next_L34 K (fX4_next_L8 K n) μ_10
      else
        nm (sI μ_10 21 (μ_10.1 20)) fun μ_14 =>
        if (μ_14.1 20) = (μ_14.1 19) then
          nm (sI μ_14 22 (0 : Int32)) fun μ_44 =>
          some μ_44
        else
          b2 (fX4_isLetterAt K (μ_14.1 20) μ_14) fun r_18 μ_16 =>
          if r_18 = true then
            fX4_next_L85 K K μ_16
          else
            b2 (fX4_isDigitAt K (μ_16.1 20) μ_16) fun r_22 μ_20 =>
            if r_22 = true then
              b1 (fX4_readNumber K μ_20) fun μ_24 =>
              some μ_24
            else
              b2 (fX4_byteAt K (μ_20.1 20) μ_20) fun r_28 μ_26 =>
              if r_28 = (45 : Int32) then
                b1 (fX4_readNumber K μ_26) fun μ_36 =>
                some μ_36
              else
                b2 (fX4_byteAt K (μ_26.1 20) μ_26) fun r_32 μ_30 =>
                if r_32 = (59 : Int32) then
                  fX4_next_L167 K (4 : Int32) μ_30
                else
                  fX4_next_L167 K (1 : Int32) μ_30
def fX4_next (K : Nat) (μ : MS) : Option MS :=
  b2 (fX4_isFine K μ) fun r_3 μ_1 =>
  if r_3 = true then
    fX4_next_L8 K K μ_1
  else
    some μ_1
set_option maxHeartbeats 4000000 in
set_option maxRecDepth 100000 in
theorem tX4_next (l : Launch) (D : va_G) (d : Nat → ClassId) (z : ZT) (o : Nat) (a : Nat → Nat) (K : Nat) (μ : MS) (μ' : MS) (hf : fX4_next K μ = some μ') : CV l yX4_next (ws_ yX4_next cX4_next 1 (Option.none : Option Jvm.ClassFile.FieldType)) (rmc 3 0 0 68) D d z [.ref o] (MP d o a μ) (MP d o a μ') := by
  refine mV_of rfl (by decide) (Nat.le_of_ble_eq_true rfl) ?_
  intro p e s m args below meth c A Q ls S hK hP hD hZ hS hA hl hret
  have hx := S.1
  have hb := S.2.1
  have hts := S.2.2.2.2
  have hl : lv_has ls 1 [(0, .ref o)] := hl
  have L167 : ∀ (t167_0 : Int32) (μ167 : MS) (H : Heap) (locs : List Loc) (ls : Array Slot), fX4_next_L167 K t167_0 μ167 = some μ' → va_P D CL (MP d o a μ167) H → va_D A (MP d o a μ167) → va_S A s.heap H locs → lv_has ls 1 [(0, .ref o)] → W p l e (rmc 3 0 0 68) s m args below meth c H locs 0 0 Q (F0 m 167 ls [.int t167_0, .ref o]) := by
    intro t167_0 μ167 H locs ls hf hP hD hS hl
    unfold fX4_next_L167 at hf
    refine m_putI S hK hP hD hS 22 (by decide) q1622 rfl rfl rfl rfl rfl dX4_next_167 ?_
    clear hP hD hS
    intro μ_34 e_ H locs hP hD hS
    replace hf := nm_some hf μ_34 e_
    clear e_
    refine lv_aload_n hx hb dX4_next_170 rfl (lv_at hl 0 rfl) ?_
    refine lv_dup hx hb dX4_next_171 rfl ?_
    refine m_get S hK hP 20 (by decide) q1620 rfl dX4_next_172 ?_
    refine lv_iconst (v := 1) hx hb dX4_next_175 (by decide) ?_
    refine lv_iadd hx hb dX4_next_176 ?_
    refine m_putI S hK hP hD hS 20 (by decide) q1620 rfl rfl rfl rfl rfl dX4_next_177 ?_
    clear hP hD hS
    intro μ_35 e_ H locs hP hD hS
    replace hf := nm_some hf μ_35 e_
    clear e_
    exact hret _ _ _ _ _ hf dX4_next_180 hP hD hS
  have L85 : ∀ (n : Nat) (μ85 : MS) (H : Heap) (locs : List Loc) (ls : Array Slot), fX4_next_L85 K n μ85 = some μ' → va_P D CL (MP d o a μ85) H → va_D A (MP d o a μ85) → va_S A s.heap H locs → lv_has ls 1 [(0, .ref o)] → W p l e (rmc 3 0 0 68) s m args below meth c H locs 0 0 Q (F0 m 85 ls []) := by
    intro n
    induction n with
    | zero =>
      intro μ85 H locs ls hf hP hD hS hl
      rw [fX4_next_L85] at hf
      cases hf
    | succ n ih =>
      intro μ85 H locs ls hf hP hD hS hl
      rw [fX4_next_L85] at hf
      refine lv_aload_n hx hb dX4_next_85 rfl (lv_at hl 0 rfl) ?_
      refine lv_aload_n hx hb dX4_next_86 rfl (lv_at hl 0 rfl) ?_
      refine m_get S hK hP 20 (by decide) q1620 rfl dX4_next_87 ?_
      obtain ⟨r_40, μ_38, h_39, hf⟩ := b2_some hf
      refine ci_call S hK hP hD hZ hS hA (tX4_isLetterAt l D d z o a K (μ85.1 20) μ85 _ _ h_39) (cwV 1 hts (lw_V q1777 q1779 qs54 q101 q1780) rfl rfl rfl (by decide +kernel) ⟨Nat.le_of_ble_eq_true rfl, Nat.le_of_ble_eq_true rfl⟩) (ci := 0) (q0 := 0) rfl rfl rfl hl.1 rfl (Nat.le_of_ble_eq_true rfl) ⟨Nat.le_of_ble_eq_true rfl, Nat.le_of_ble_eq_true rfl⟩ dX4_next_90 ?_
      clear hP hD hS
      intro H locs hP hD hS
      clear h_39
      refine lv_if_eq (tgt := 109) hx hb dX4_next_93 (by decide) (fun c_41 => ?_) (fun c_41 => ?_)
      · replace hf := it_f hf (bi_e0 c_41)
        clear c_41
        refine lv_aload_n hx hb dX4_next_109 rfl (lv_at hl 0 rfl) ?_
        refine lv_iconst (v := 2) hx hb dX4_next_110 (by decide) ?_
        refine m_putI S hK hP hD hS 22 (by decide) q1622 rfl rfl rfl rfl rfl dX4_next_111 ?_
        clear hP hD hS
        intro μ_42 e_ H locs hP hD hS
        replace hf := nm_some hf μ_42 e_
        clear e_
        refine lv_goto (tgt := 180) hx hb dX4_next_114 (by decide) ?_
        exact hret _ _ _ _ _ hf dX4_next_180 hP hD hS
      · replace hf := it_t hf (bi_n0 c_41)
        clear c_41
        refine lv_aload_n hx hb dX4_next_96 rfl (lv_at hl 0 rfl) ?_
        refine lv_dup hx hb dX4_next_97 rfl ?_
        refine m_get S hK hP 20 (by decide) q1620 rfl dX4_next_98 ?_
        refine lv_iconst (v := 1) hx hb dX4_next_101 (by decide) ?_
        refine lv_iadd hx hb dX4_next_102 ?_
        refine m_putI S hK hP hD hS 20 (by decide) q1620 rfl rfl rfl rfl rfl dX4_next_103 ?_
        clear hP hD hS
        intro μ_43 e_ H locs hP hD hS
        replace hf := nm_some hf μ_43 e_
        clear e_
        refine lv_goto (tgt := 85) hx hb dX4_next_106 (by decide) ?_
        exact ih μ_43 _ _ _ hf hP hD hS (lv_sub hl [0] rfl)
  have L8 : ∀ (n : Nat) (μ8 : MS) (H : Heap) (locs : List Loc) (ls : Array Slot), fX4_next_L8 K n μ8 = some μ' → va_P D CL (MP d o a μ8) H → va_D A (MP d o a μ8) → va_S A s.heap H locs → lv_has ls 1 [(0, .ref o)] → W p l e (rmc 3 0 0 68) s m args below meth c H locs 0 0 Q (F0 m 8 ls []) := by
    intro n
    induction n with
    | zero =>
      intro μ8 H locs ls hf hP hD hS hl
      rw [fX4_next_L8] at hf
      cases hf
    | succ n ih =>
      have ih8 := ih
      have L34 : ∀ (μ34 : MS) (H : Heap) (locs : List Loc) (ls : Array Slot), fX4_next_L34 K (fX4_next_L8 K n) μ34 = some μ' → va_P D CL (MP d o a μ34) H → va_D A (MP d o a μ34) → va_S A s.heap H locs → lv_has ls 1 [(0, .ref o)] → W p l e (rmc 3 0 0 68) s m args below meth c H locs 0 0 Q (F0 m 34 ls []) := by
        intro μ34 H locs ls hf hP hD hS hl
        unfold fX4_next_L34 at hf
        refine lv_aload_n hx hb dX4_next_34 rfl (lv_at hl 0 rfl) ?_
        refine lv_dup hx hb dX4_next_35 rfl ?_
        refine m_get S hK hP 20 (by decide) q1620 rfl dX4_next_36 ?_
        refine lv_iconst (v := 1) hx hb dX4_next_39 (by decide) ?_
        refine lv_iadd hx hb dX4_next_40 ?_
        refine m_putI S hK hP hD hS 20 (by decide) q1620 rfl rfl rfl rfl rfl dX4_next_41 ?_
        clear hP hD hS
        intro μ_9 e_ H locs hP hD hS
        replace hf := nm_some hf μ_9 e_
        clear e_
        refine lv_goto (tgt := 8) hx hb dX4_next_44 (by decide) ?_
        exact ih8 μ_9 _ _ _ hf hP hD hS (lv_sub hl [0] rfl)
      intro μ8 H locs ls hf hP hD hS hl
      rw [fX4_next_L8] at hf
      refine lv_aload_n hx hb dX4_next_8 rfl (lv_at hl 0 rfl) ?_
      refine lv_aload_n hx hb dX4_next_9 rfl (lv_at hl 0 rfl) ?_
      refine m_get S hK hP 20 (by decide) q1620 rfl dX4_next_10 ?_
      obtain ⟨r_7, μ_5, h_6, hf⟩ := b2_some hf
      refine ci_call S hK hP hD hZ hS hA (tX4_byteAt l D d z o a K (μ8.1 20) μ8 _ _ h_6) (cwV 1 hts (lw_V q1773 q1775 qs53 q101 q1776) rfl rfl rfl (by decide +kernel) ⟨Nat.le_of_ble_eq_true rfl, Nat.le_of_ble_eq_true rfl⟩) (ci := 0) (q0 := 0) rfl rfl rfl hl.1 rfl (Nat.le_of_ble_eq_true rfl) ⟨Nat.le_of_ble_eq_true rfl, Nat.le_of_ble_eq_true rfl⟩ dX4_next_13 ?_
      clear hP hD hS
      intro H locs hP hD hS
      clear h_6
      refine lv_bipush (v := 32) hx hb dX4_next_16 (by decide) ?_
      refine lv_icmp_eq (tgt := 34) hx hb dX4_next_18 (by decide) (fun c_8 => ?_) (fun c_8 => ?_)
      · replace hf := it_t hf c_8
        clear c_8
        exact L34 μ_5 _ _ _ hf hP hD hS (lv_sub hl [0] rfl)
      · replace hf := it_f hf c_8
        clear c_8
        refine lv_aload_n hx hb dX4_next_21 rfl (lv_at hl 0 rfl) ?_
        refine lv_aload_n hx hb dX4_next_22 rfl (lv_at hl 0 rfl) ?_
        refine m_get S hK hP 20 (by decide) q1620 rfl dX4_next_23 ?_
        obtain ⟨r_12, μ_10, h_11, hf⟩ := b2_some hf
        refine ci_call S hK hP hD hZ hS hA (tX4_byteAt l D d z o a K (μ_5.1 20) μ_5 _ _ h_11) (cwV 1 hts (lw_V q1773 q1775 qs53 q101 q1776) rfl rfl rfl (by decide +kernel) ⟨Nat.le_of_ble_eq_true rfl, Nat.le_of_ble_eq_true rfl⟩) (ci := 0) (q0 := 0) rfl rfl rfl hl.1 rfl (Nat.le_of_ble_eq_true rfl) ⟨Nat.le_of_ble_eq_true rfl, Nat.le_of_ble_eq_true rfl⟩ dX4_next_26 ?_
        clear hP hD hS
        intro H locs hP hD hS
        clear h_11
        refine lv_bipush (v := 10) hx hb dX4_next_29 (by decide) ?_
        refine lv_icmp_ne (tgt := 47) hx hb dX4_next_31 (by decide) (fun c_13 => ?_) (fun c_13 => ?_)
        · replace hf := it_f hf c_13
          clear c_13
          refine lv_aload_n hx hb dX4_next_47 rfl (lv_at hl 0 rfl) ?_
          refine lv_aload_n hx hb dX4_next_48 rfl (lv_at hl 0 rfl) ?_
          refine m_get S hK hP 20 (by decide) q1620 rfl dX4_next_49 ?_
          refine m_putI S hK hP hD hS 21 (by decide) q1621 rfl rfl rfl rfl rfl dX4_next_52 ?_
          clear hP hD hS
          intro μ_14 e_ H locs hP hD hS
          replace hf := nm_some hf μ_14 e_
          clear e_
          refine lv_aload_n hx hb dX4_next_55 rfl (lv_at hl 0 rfl) ?_
          refine m_get S hK hP 20 (by decide) q1620 rfl dX4_next_56 ?_
          refine lv_aload_n hx hb dX4_next_59 rfl (lv_at hl 0 rfl) ?_
          refine m_get S hK hP 19 (by decide) q1619 rfl dX4_next_60 ?_
          refine lv_icmp_ne (tgt := 74) hx hb dX4_next_63 (by decide) (fun c_15 => ?_) (fun c_15 => ?_)
          · replace hf := it_f hf c_15
            clear c_15
            refine lv_aload_n hx hb dX4_next_74 rfl (lv_at hl 0 rfl) ?_
            refine lv_aload_n hx hb dX4_next_75 rfl (lv_at hl 0 rfl) ?_
            refine m_get S hK hP 20 (by decide) q1620 rfl dX4_next_76 ?_
            obtain ⟨r_18, μ_16, h_17, hf⟩ := b2_some hf
            refine ci_call S hK hP hD hZ hS hA (tX4_isLetterAt l D d z o a K (μ_14.1 20) μ_14 _ _ h_17) (cwV 1 hts (lw_V q1777 q1779 qs54 q101 q1780) rfl rfl rfl (by decide +kernel) ⟨Nat.le_of_ble_eq_true rfl, Nat.le_of_ble_eq_true rfl⟩) (ci := 0) (q0 := 0) rfl rfl rfl hl.1 rfl (Nat.le_of_ble_eq_true rfl) ⟨Nat.le_of_ble_eq_true rfl, Nat.le_of_ble_eq_true rfl⟩ dX4_next_79 ?_
            clear hP hD hS
            intro H locs hP hD hS
            clear h_17
            refine lv_if_eq (tgt := 117) hx hb dX4_next_82 (by decide) (fun c_19 => ?_) (fun c_19 => ?_)
            · replace hf := it_f hf (bi_e0 c_19)
              clear c_19
              refine lv_aload_n hx hb dX4_next_117 rfl (lv_at hl 0 rfl) ?_
              refine lv_aload_n hx hb dX4_next_118 rfl (lv_at hl 0 rfl) ?_
              refine m_get S hK hP 20 (by decide) q1620 rfl dX4_next_119 ?_
              obtain ⟨r_22, μ_20, h_21, hf⟩ := b2_some hf
              refine ci_call S hK hP hD hZ hS hA (tX4_isDigitAt l D d z o a K (μ_16.1 20) μ_16 _ _ h_21) (cwV 1 hts (lw_V q1783 q1785 qs55 q101 q1786) rfl rfl rfl (by decide +kernel) ⟨Nat.le_of_ble_eq_true rfl, Nat.le_of_ble_eq_true rfl⟩) (ci := 0) (q0 := 0) rfl rfl rfl hl.1 rfl (Nat.le_of_ble_eq_true rfl) ⟨Nat.le_of_ble_eq_true rfl, Nat.le_of_ble_eq_true rfl⟩ dX4_next_122 ?_
              clear hP hD hS
              intro H locs hP hD hS
              clear h_21
              refine lv_if_ne (tgt := 141) hx hb dX4_next_125 (by decide) (fun c_23 => ?_) (fun c_23 => ?_)
              · replace hf := it_t hf (bi_n0 c_23)
                clear c_23
                refine lv_aload_n hx hb dX4_next_141 rfl (lv_at hl 0 rfl) ?_
                obtain ⟨μ_24, h_25, hf⟩ := b1_some hf
                refine cv_call S hK hP hD hZ hS hA (tX4_readNumber l D d z o a K μ_20 _ h_25) (cwV 0 hts (lw_V q1789 q1791 qs56 q101 q1792) rfl rfl rfl (by decide +kernel) ⟨Nat.le_of_ble_eq_true rfl, Nat.le_of_ble_eq_true rfl⟩) (ci := 0) (q0 := 0) rfl rfl rfl hl.1 rfl (Nat.le_of_ble_eq_true rfl) ⟨Nat.le_of_ble_eq_true rfl, Nat.le_of_ble_eq_true rfl⟩ dX4_next_142 ?_
                clear hP hD hS
                intro H locs hP hD hS
                clear h_25
                refine lv_goto (tgt := 180) hx hb dX4_next_145 (by decide) ?_
                exact hret _ _ _ _ _ hf dX4_next_180 hP hD hS
              · replace hf := it_f hf (bi_e0 c_23)
                clear c_23
                refine lv_aload_n hx hb dX4_next_128 rfl (lv_at hl 0 rfl) ?_
                refine lv_aload_n hx hb dX4_next_129 rfl (lv_at hl 0 rfl) ?_
                refine m_get S hK hP 20 (by decide) q1620 rfl dX4_next_130 ?_
                obtain ⟨r_28, μ_26, h_27, hf⟩ := b2_some hf
                refine ci_call S hK hP hD hZ hS hA (tX4_byteAt l D d z o a K (μ_20.1 20) μ_20 _ _ h_27) (cwV 1 hts (lw_V q1773 q1775 qs53 q101 q1776) rfl rfl rfl (by decide +kernel) ⟨Nat.le_of_ble_eq_true rfl, Nat.le_of_ble_eq_true rfl⟩) (ci := 0) (q0 := 0) rfl rfl rfl hl.1 rfl (Nat.le_of_ble_eq_true rfl) ⟨Nat.le_of_ble_eq_true rfl, Nat.le_of_ble_eq_true rfl⟩ dX4_next_133 ?_
                clear hP hD hS
                intro H locs hP hD hS
                clear h_27
                refine lv_bipush (v := 45) hx hb dX4_next_136 (by decide) ?_
                refine lv_icmp_ne (tgt := 148) hx hb dX4_next_138 (by decide) (fun c_29 => ?_) (fun c_29 => ?_)
                · replace hf := it_f hf c_29
                  clear c_29
                  refine lv_aload_n hx hb dX4_next_148 rfl (lv_at hl 0 rfl) ?_
                  refine lv_aload_n hx hb dX4_next_149 rfl (lv_at hl 0 rfl) ?_
                  refine lv_aload_n hx hb dX4_next_150 rfl (lv_at hl 0 rfl) ?_
                  refine m_get S hK hP 20 (by decide) q1620 rfl dX4_next_151 ?_
                  obtain ⟨r_32, μ_30, h_31, hf⟩ := b2_some hf
                  refine ci_call S hK hP hD hZ hS hA (tX4_byteAt l D d z o a K (μ_26.1 20) μ_26 _ _ h_31) (cwV 1 hts (lw_V q1773 q1775 qs53 q101 q1776) rfl rfl rfl (by decide +kernel) ⟨Nat.le_of_ble_eq_true rfl, Nat.le_of_ble_eq_true rfl⟩) (ci := 0) (q0 := 0) rfl rfl rfl hl.1 rfl (Nat.le_of_ble_eq_true rfl) ⟨Nat.le_of_ble_eq_true rfl, Nat.le_of_ble_eq_true rfl⟩ dX4_next_154 ?_
                  clear hP hD hS
                  intro H locs hP hD hS
                  clear h_31
                  refine lv_bipush (v := 59) hx hb dX4_next_157 (by decide) ?_
                  refine lv_icmp_ne (tgt := 166) hx hb dX4_next_159 (by decide) (fun c_33 => ?_) (fun c_33 => ?_)
                  · replace hf := it_f hf c_33
                    clear c_33
                    refine lv_iconst (v := 1) hx hb dX4_next_166 (by decide) ?_
                    exact L167 (1 : Int32) μ_30 _ _ _ hf hP hD hS (lv_sub hl [0] rfl)
                  · replace hf := it_t hf c_33
                    clear c_33
                    refine lv_iconst (v := 4) hx hb dX4_next_162 (by decide) ?_
                    refine lv_goto (tgt := 167) hx hb dX4_next_163 (by decide) ?_
                    exact L167 (4 : Int32) μ_30 _ _ _ hf hP hD hS (lv_sub hl [0] rfl)
                · replace hf := it_t hf c_29
                  clear c_29
                  refine lv_aload_n hx hb dX4_next_141 rfl (lv_at hl 0 rfl) ?_
                  obtain ⟨μ_36, h_37, hf⟩ := b1_some hf
                  refine cv_call S hK hP hD hZ hS hA (tX4_readNumber l D d z o a K μ_26 _ h_37) (cwV 0 hts (lw_V q1789 q1791 qs56 q101 q1792) rfl rfl rfl (by decide +kernel) ⟨Nat.le_of_ble_eq_true rfl, Nat.le_of_ble_eq_true rfl⟩) (ci := 0) (q0 := 0) rfl rfl rfl hl.1 rfl (Nat.le_of_ble_eq_true rfl) ⟨Nat.le_of_ble_eq_true rfl, Nat.le_of_ble_eq_true rfl⟩ dX4_next_142 ?_
                  clear hP hD hS
                  intro H locs hP hD hS
                  clear h_37
                  refine lv_goto (tgt := 180) hx hb dX4_next_145 (by decide) ?_
                  exact hret _ _ _ _ _ hf dX4_next_180 hP hD hS
            · replace hf := it_t hf (bi_n0 c_19)
              clear c_19
              exact L85 K μ_16 _ _ _ hf hP hD hS (lv_sub hl [0] rfl)
          · replace hf := it_t hf c_15
            clear c_15
            refine lv_aload_n hx hb dX4_next_66 rfl (lv_at hl 0 rfl) ?_
            refine lv_iconst (v := 0) hx hb dX4_next_67 (by decide) ?_
            refine m_putI S hK hP hD hS 22 (by decide) q1622 rfl rfl rfl rfl rfl dX4_next_68 ?_
            clear hP hD hS
            intro μ_44 e_ H locs hP hD hS
            replace hf := nm_some hf μ_44 e_
            clear e_
            refine lv_goto (tgt := 180) hx hb dX4_next_71 (by decide) ?_
            exact hret _ _ _ _ _ hf dX4_next_180 hP hD hS
        · replace hf := it_t hf c_13
          clear c_13
          exact L34 μ_10 _ _ _ hf hP hD hS (lv_sub hl [0] rfl)
  unfold fX4_next at hf
  refine lv_aload_n hx hb dX4_next_0 rfl (lv_at hl 0 rfl) ?_
  obtain ⟨r_3, μ_1, h_2, hf⟩ := b2_some hf
  refine ci_call S hK hP hD hZ hS hA (tX4_isFine l D d z o a K μ _ _ h_2) (cwV 0 hts (lw_V q1769 q1771 qs52 q101 q1772) rfl rfl rfl (by decide +kernel) ⟨Nat.le_of_ble_eq_true rfl, Nat.le_of_ble_eq_true rfl⟩) (ci := 0) (q0 := 0) rfl rfl rfl hl.1 rfl (Nat.le_of_ble_eq_true rfl) ⟨Nat.le_of_ble_eq_true rfl, Nat.le_of_ble_eq_true rfl⟩ dX4_next_1 ?_
  clear hP hD hS
  intro H locs hP hD hS
  clear h_2
  refine lv_if_ne (tgt := 8) hx hb dX4_next_4 (by decide) (fun c_4 => ?_) (fun c_4 => ?_)
  · replace hf := it_t hf (bi_n0 c_4)
    clear c_4
    exact L8 K μ_1 _ _ _ hf hP hD hS (lv_sub hl [0] rfl)
  · replace hf := it_f hf (bi_e0 c_4)
    clear c_4
    exact hret _ _ _ _ _ hf dX4_next_7 hP hD hS
def fX4_fail (K : Nat) (p0 : Int32) (μ : MS) : Option MS :=
  b2 (fX4_isFine K μ) fun r_3 μ_1 =>
  if r_3 = true then
    nm (sI μ_1 24 p0) fun μ_5 =>
    nm (sI μ_5 25 (μ_5.1 21)) fun μ_6 =>
    some μ_6
  else
    some μ_1
set_option maxHeartbeats 4000000 in
set_option maxRecDepth 100000 in
theorem tX4_fail (l : Launch) (D : va_G) (d : Nat → ClassId) (z : ZT) (o : Nat) (a : Nat → Nat) (K : Nat) (p0 : Int32) (μ : MS) (μ' : MS) (hf : fX4_fail K p0 μ = some μ') : CV l yX4_fail (ws_ yX4_fail cX4_fail 2 (Option.none : Option Jvm.ClassFile.FieldType)) (rmc 1 0 0 20) D d z [.ref o, .int p0] (MP d o a μ) (MP d o a μ') := by
  refine mV_of rfl (by decide) (Nat.le_of_ble_eq_true rfl) ?_
  intro p e s m args below meth c A Q ls S hK hP hD hZ hS hA hl hret
  have hx := S.1
  have hb := S.2.1
  have hts := S.2.2.2.2
  have hl : lv_has ls 2 [(0, .ref o), (1, .int p0)] := hl
  unfold fX4_fail at hf
  refine lv_aload_n hx hb dX4_fail_0 rfl (lv_at hl 0 rfl) ?_
  obtain ⟨r_3, μ_1, h_2, hf⟩ := b2_some hf
  refine ci_call S hK hP hD hZ hS hA (tX4_isFine l D d z o a K μ _ _ h_2) (cwV 0 hts (lw_V q1769 q1771 qs52 q101 q1772) rfl rfl rfl (by decide +kernel) ⟨Nat.le_of_ble_eq_true rfl, Nat.le_of_ble_eq_true rfl⟩) (ci := 0) (q0 := 0) rfl rfl rfl hl.1 rfl (Nat.le_of_ble_eq_true rfl) ⟨Nat.le_of_ble_eq_true rfl, Nat.le_of_ble_eq_true rfl⟩ dX4_fail_1 ?_
  clear hP hD hS
  intro H locs hP hD hS
  clear h_2
  refine lv_if_eq (tgt := 20) hx hb dX4_fail_4 (by decide) (fun c_4 => ?_) (fun c_4 => ?_)
  · replace hf := it_f hf (bi_e0 c_4)
    clear c_4
    exact hret _ _ _ _ _ hf dX4_fail_20 hP hD hS
  · replace hf := it_t hf (bi_n0 c_4)
    clear c_4
    refine lv_aload_n hx hb dX4_fail_7 rfl (lv_at hl 0 rfl) ?_
    refine lv_iload_n hx hb dX4_fail_8 rfl (lv_at hl 1 rfl) ?_
    refine m_putI S hK hP hD hS 24 (by decide) q1624 rfl rfl rfl rfl rfl dX4_fail_9 ?_
    clear hP hD hS
    intro μ_5 e_ H locs hP hD hS
    replace hf := nm_some hf μ_5 e_
    clear e_
    refine lv_aload_n hx hb dX4_fail_12 rfl (lv_at hl 0 rfl) ?_
    refine lv_aload_n hx hb dX4_fail_13 rfl (lv_at hl 0 rfl) ?_
    refine m_get S hK hP 21 (by decide) q1621 rfl dX4_fail_14 ?_
    refine m_putI S hK hP hD hS 25 (by decide) q1625 rfl rfl rfl rfl rfl dX4_fail_17 ?_
    clear hP hD hS
    intro μ_6 e_ H locs hP hD hS
    replace hf := nm_some hf μ_6 e_
    clear e_
    exact hret _ _ _ _ _ hf dX4_fail_20 hP hD hS
def fX4_expectSemicolon (K : Nat) (μ : MS) : Option MS :=
  if (μ.1 22) = (4 : Int32) then
    b1 (fX4_next K μ) fun μ_2 =>
    some μ_2
  else
    b1 (fX4_fail K (1 : Int32) μ) fun μ_4 =>
    b1 (fX4_next K μ_4) fun μ_6 =>
    some μ_6
set_option maxHeartbeats 4000000 in
set_option maxRecDepth 100000 in
theorem tX4_expectSemicolon (l : Launch) (D : va_G) (d : Nat → ClassId) (z : ZT) (o : Nat) (a : Nat → Nat) (K : Nat) (μ : MS) (μ' : MS) (hf : fX4_expectSemicolon K μ = some μ') : CV l yX4_expectSemicolon (ws_ yX4_expectSemicolon cX4_expectSemicolon 1 (Option.none : Option Jvm.ClassFile.FieldType)) (rmc 4 0 0 88) D d z [.ref o] (MP d o a μ) (MP d o a μ') := by
  refine mV_of rfl (by decide) (Nat.le_of_ble_eq_true rfl) ?_
  intro p e s m args below meth c A Q ls S hK hP hD hZ hS hA hl hret
  have hx := S.1
  have hb := S.2.1
  have hts := S.2.2.2.2
  have hl : lv_has ls 1 [(0, .ref o)] := hl
  unfold fX4_expectSemicolon at hf
  refine lv_aload_n hx hb dX4_expectSemicolon_0 rfl (lv_at hl 0 rfl) ?_
  refine m_get S hK hP 22 (by decide) q1622 rfl dX4_expectSemicolon_1 ?_
  refine lv_iconst (v := 4) hx hb dX4_expectSemicolon_4 (by decide) ?_
  refine lv_icmp_eq (tgt := 13) hx hb dX4_expectSemicolon_5 (by decide) (fun c_1 => ?_) (fun c_1 => ?_)
  · replace hf := it_t hf c_1
    clear c_1
    refine lv_aload_n hx hb dX4_expectSemicolon_13 rfl (lv_at hl 0 rfl) ?_
    obtain ⟨μ_2, h_3, hf⟩ := b1_some hf
    refine cv_call S hK hP hD hZ hS hA (tX4_next l D d z o a K μ _ h_3) (cwV 0 hts (lw_V q1765 q1767 qs51 q101 q1768) rfl rfl rfl (by decide +kernel) ⟨Nat.le_of_ble_eq_true rfl, Nat.le_of_ble_eq_true rfl⟩) (ci := 0) (q0 := 0) rfl rfl rfl hl.1 rfl (Nat.le_of_ble_eq_true rfl) ⟨Nat.le_of_ble_eq_true rfl, Nat.le_of_ble_eq_true rfl⟩ dX4_expectSemicolon_14 ?_
    clear hP hD hS
    intro H locs hP hD hS
    clear h_3
    exact hret _ _ _ _ _ hf dX4_expectSemicolon_17 hP hD hS
  · replace hf := it_f hf c_1
    clear c_1
    refine lv_aload_n hx hb dX4_expectSemicolon_8 rfl (lv_at hl 0 rfl) ?_
    refine lv_iconst (v := 1) hx hb dX4_expectSemicolon_9 (by decide) ?_
    obtain ⟨μ_4, h_5, hf⟩ := b1_some hf
    refine cv_call S hK hP hD hZ hS hA (tX4_fail l D d z o a K (1 : Int32) μ _ h_5) (cwV 1 hts (lw_V q1830 q1832 qs60 q101 q1833) rfl rfl rfl (by decide +kernel) ⟨Nat.le_of_ble_eq_true rfl, Nat.le_of_ble_eq_true rfl⟩) (ci := 0) (q0 := 0) rfl rfl rfl hl.1 rfl (Nat.le_of_ble_eq_true rfl) ⟨Nat.le_of_ble_eq_true rfl, Nat.le_of_ble_eq_true rfl⟩ dX4_expectSemicolon_10 ?_
    clear hP hD hS
    intro H locs hP hD hS
    clear h_5
    refine lv_aload_n hx hb dX4_expectSemicolon_13 rfl (lv_at hl 0 rfl) ?_
    obtain ⟨μ_6, h_7, hf⟩ := b1_some hf
    refine cv_call S hK hP hD hZ hS hA (tX4_next l D d z o a K μ_4 _ h_7) (cwV 0 hts (lw_V q1765 q1767 qs51 q101 q1768) rfl rfl rfl (by decide +kernel) ⟨Nat.le_of_ble_eq_true rfl, Nat.le_of_ble_eq_true rfl⟩) (ci := 0) (q0 := 0) rfl rfl rfl hl.1 rfl (Nat.le_of_ble_eq_true rfl) ⟨Nat.le_of_ble_eq_true rfl, Nat.le_of_ble_eq_true rfl⟩ dX4_expectSemicolon_14 ?_
    clear hP hD hS
    intro H locs hP hD hS
    clear h_7
    exact hret _ _ _ _ _ hf dX4_expectSemicolon_17 hP hD hS
def fX4_readAbove_L52 (K : Nat) (μ52 : MS) : Option (Int32 × MS) :=
  nm (μ52.1 23) fun v_6 =>
  b1 (fX4_next K μ52) fun μ_7 =>
  some (v_6, μ_7)
def fX4_readAbove (K : Nat) (p0 : Int32) (p1 : Int32) (p2 : Int32) (μ : MS) : Option (Int32 × MS) :=
  if (μ.1 22) = (3 : Int32) then
    b1 (fX4_isIn K ((μ.1 23).toInt64) p0.toInt64 p1.toInt64) fun r_2 =>
    if r_2 = true then
      if p2 < (μ.1 23) then
        fX4_readAbove_L52 K μ
      else
        b1 (fX4_fail K (3 : Int32) μ) fun μ_9 =>
        fX4_readAbove_L52 K μ_9
    else
      b1 (fX4_fail K (2 : Int32) μ) fun μ_11 =>
      fX4_readAbove_L52 K μ_11
  else
    b1 (fX4_fail K (1 : Int32) μ) fun μ_13 =>
    fX4_readAbove_L52 K μ_13
set_option maxHeartbeats 4000000 in
set_option maxRecDepth 100000 in
theorem tX4_readAbove (l : Launch) (D : va_G) (d : Nat → ClassId) (z : ZT) (o : Nat) (a : Nat → Nat) (K : Nat) (p0 : Int32) (p1 : Int32) (p2 : Int32) (μ : MS) (r : Int32) (μ' : MS) (hf : fX4_readAbove K p0 p1 p2 μ = some (r, μ')) : CI l yX4_readAbove (ws_ yX4_readAbove cX4_readAbove 5 (Option.some Jvm.ClassFile.FieldType.int)) (rmc 4 0 0 88) D d z [.ref o, .int p0, .int p1, .int p2] (MP d o a μ) r (MP d o a μ') := by
  refine mI_of rfl (by decide) (Nat.le_of_ble_eq_true rfl) ?_
  intro p e s m args below meth c A Q ls S hK hP hD hZ hS hA hl hret
  have hx := S.1
  have hb := S.2.1
  have hts := S.2.2.2.2
  have hl : lv_has ls 5 [(0, .ref o), (1, .int p0), (2, .int p1), (3, .int p2)] := hl
  have L52 : ∀ (μ52 : MS) (H : Heap) (locs : List Loc) (ls : Array Slot), fX4_readAbove_L52 K μ52 = some (r, μ') → va_P D CL (MP d o a μ52) H → va_D A (MP d o a μ52) → va_S A s.heap H locs → lv_has ls 5 [(0, .ref o)] → W p l e (rmc 4 0 0 88) s m args below meth c H locs 0 0 Q (F0 m 52 ls []) := by
    intro μ52 H locs ls hf hP hD hS hl
    unfold fX4_readAbove_L52 at hf
    refine lv_aload_n hx hb dX4_readAbove_52 rfl (lv_at hl 0 rfl) ?_
    refine m_get S hK hP 23 (by decide) q1623 rfl dX4_readAbove_53 ?_
    refine lv_topi (fun v_6 e_ => ?_)
    replace hf := nm_some hf v_6 e_
    clear e_
    refine lv_istore (lv' := [(4, .int v_6), (0, .ref o)]) hx hb dX4_readAbove_56 hl (by decide) rfl (fun ls hl => ?_)
    refine lv_aload_n hx hb dX4_readAbove_58 rfl (lv_at hl 1 rfl) ?_
    obtain ⟨μ_7, h_8, hf⟩ := b1_some hf
    refine cv_call S hK hP hD hZ hS hA (tX4_next l D d z o a K μ52 _ h_8) (cwV 0 hts (lw_V q1765 q1767 qs51 q101 q1768) rfl rfl rfl (by decide +kernel) ⟨Nat.le_of_ble_eq_true rfl, Nat.le_of_ble_eq_true rfl⟩) (ci := 0) (q0 := 0) rfl rfl rfl hl.1 rfl (Nat.le_of_ble_eq_true rfl) ⟨Nat.le_of_ble_eq_true rfl, Nat.le_of_ble_eq_true rfl⟩ dX4_readAbove_59 ?_
    clear hP hD hS
    intro H locs hP hD hS
    clear h_8
    refine lv_iload hx hb dX4_readAbove_62 (lv_at hl 0 rfl) ?_
    exact hret _ _ _ _ _ _ hf dX4_readAbove_64 hP hD hS
  unfold fX4_readAbove at hf
  refine lv_aload_n hx hb dX4_readAbove_0 rfl (lv_at hl 0 rfl) ?_
  refine m_get S hK hP 22 (by decide) q1622 rfl dX4_readAbove_1 ?_
  refine lv_iconst (v := 3) hx hb dX4_readAbove_4 (by decide) ?_
  refine lv_icmp_eq (tgt := 16) hx hb dX4_readAbove_5 (by decide) (fun c_1 => ?_) (fun c_1 => ?_)
  · replace hf := it_t hf c_1
    clear c_1
    refine lv_aload_n hx hb dX4_readAbove_16 rfl (lv_at hl 0 rfl) ?_
    refine m_get S hK hP 23 (by decide) q1623 rfl dX4_readAbove_17 ?_
    refine lv_i2l (v := (μ.1 23).toInt64) hx hb dX4_readAbove_20 rfl ?_
    refine lv_iload_n hx hb dX4_readAbove_21 rfl (lv_at hl 1 rfl) ?_
    refine lv_i2l (v := p0.toInt64) hx hb dX4_readAbove_22 rfl ?_
    refine lv_iload_n hx hb dX4_readAbove_23 rfl (lv_at hl 2 rfl) ?_
    refine lv_i2l (v := p1.toInt64) hx hb dX4_readAbove_24 rfl ?_
    obtain ⟨r_2, h_3, hf⟩ := b1_some hf
    refine si_call S (tX4_isIn l K ((μ.1 23).toInt64) p0.toInt64 p1.toInt64 _ h_3) (va_cwS 3 hts (lw_S q1754 q1755 q101 q1756) rfl rfl rfl (by decide +kernel) ⟨Nat.le_of_ble_eq_true rfl, Nat.le_of_ble_eq_true rfl⟩) rfl hl.1 rfl (Nat.le_of_ble_eq_true rfl) ⟨Nat.le_of_ble_eq_true rfl, Nat.le_of_ble_eq_true rfl⟩ dX4_readAbove_25 ?_
    clear h_3
    refine lv_if_ne (tgt := 39) hx hb dX4_readAbove_28 (by decide) (fun c_4 => ?_) (fun c_4 => ?_)
    · replace hf := it_t hf (bi_n0 c_4)
      clear c_4
      refine lv_aload_n hx hb dX4_readAbove_39 rfl (lv_at hl 0 rfl) ?_
      refine m_get S hK hP 23 (by decide) q1623 rfl dX4_readAbove_40 ?_
      refine lv_iload_n hx hb dX4_readAbove_43 rfl (lv_at hl 3 rfl) ?_
      refine lv_icmp_gt (tgt := 52) hx hb dX4_readAbove_44 (by decide) (fun c_5 => ?_) (fun c_5 => ?_)
      · replace hf := it_t hf c_5
        clear c_5
        exact L52 μ _ _ _ hf hP hD hS (lv_sub hl [0] rfl)
      · replace hf := it_f hf c_5
        clear c_5
        refine lv_aload_n hx hb dX4_readAbove_47 rfl (lv_at hl 0 rfl) ?_
        refine lv_iconst (v := 3) hx hb dX4_readAbove_48 (by decide) ?_
        obtain ⟨μ_9, h_10, hf⟩ := b1_some hf
        refine cv_call S hK hP hD hZ hS hA (tX4_fail l D d z o a K (3 : Int32) μ _ h_10) (cwV 1 hts (lw_V q1830 q1832 qs60 q101 q1833) rfl rfl rfl (by decide +kernel) ⟨Nat.le_of_ble_eq_true rfl, Nat.le_of_ble_eq_true rfl⟩) (ci := 0) (q0 := 0) rfl rfl rfl hl.1 rfl (Nat.le_of_ble_eq_true rfl) ⟨Nat.le_of_ble_eq_true rfl, Nat.le_of_ble_eq_true rfl⟩ dX4_readAbove_49 ?_
        clear hP hD hS
        intro H locs hP hD hS
        clear h_10
        exact L52 μ_9 _ _ _ hf hP hD hS (lv_sub hl [0] rfl)
    · replace hf := it_f hf (bi_e0 c_4)
      clear c_4
      refine lv_aload_n hx hb dX4_readAbove_31 rfl (lv_at hl 0 rfl) ?_
      refine lv_iconst (v := 2) hx hb dX4_readAbove_32 (by decide) ?_
      obtain ⟨μ_11, h_12, hf⟩ := b1_some hf
      refine cv_call S hK hP hD hZ hS hA (tX4_fail l D d z o a K (2 : Int32) μ _ h_12) (cwV 1 hts (lw_V q1830 q1832 qs60 q101 q1833) rfl rfl rfl (by decide +kernel) ⟨Nat.le_of_ble_eq_true rfl, Nat.le_of_ble_eq_true rfl⟩) (ci := 0) (q0 := 0) rfl rfl rfl hl.1 rfl (Nat.le_of_ble_eq_true rfl) ⟨Nat.le_of_ble_eq_true rfl, Nat.le_of_ble_eq_true rfl⟩ dX4_readAbove_33 ?_
      clear hP hD hS
      intro H locs hP hD hS
      clear h_12
      refine lv_goto (tgt := 52) hx hb dX4_readAbove_36 (by decide) ?_
      exact L52 μ_11 _ _ _ hf hP hD hS (lv_sub hl [0] rfl)
  · replace hf := it_f hf c_1
    clear c_1
    refine lv_aload_n hx hb dX4_readAbove_8 rfl (lv_at hl 0 rfl) ?_
    refine lv_iconst (v := 1) hx hb dX4_readAbove_9 (by decide) ?_
    obtain ⟨μ_13, h_14, hf⟩ := b1_some hf
    refine cv_call S hK hP hD hZ hS hA (tX4_fail l D d z o a K (1 : Int32) μ _ h_14) (cwV 1 hts (lw_V q1830 q1832 qs60 q101 q1833) rfl rfl rfl (by decide +kernel) ⟨Nat.le_of_ble_eq_true rfl, Nat.le_of_ble_eq_true rfl⟩) (ci := 0) (q0 := 0) rfl rfl rfl hl.1 rfl (Nat.le_of_ble_eq_true rfl) ⟨Nat.le_of_ble_eq_true rfl, Nat.le_of_ble_eq_true rfl⟩ dX4_readAbove_10 ?_
    clear hP hD hS
    intro H locs hP hD hS
    clear h_14
    refine lv_goto (tgt := 52) hx hb dX4_readAbove_13 (by decide) ?_
    exact L52 μ_13 _ _ _ hf hP hD hS (lv_sub hl [0] rfl)
def fX4_readIn (K : Nat) (p0 : Int32) (p1 : Int32) (μ : MS) : Option (Int32 × MS) :=
  b2 (fX4_readAbove K p0 p1 (p0 - (1 : Int32)) μ) fun r_3 μ_1 =>
  some (r_3, μ_1)
set_option maxHeartbeats 4000000 in
set_option maxRecDepth 100000 in
theorem tX4_readIn (l : Launch) (D : va_G) (d : Nat → ClassId) (z : ZT) (o : Nat) (a : Nat → Nat) (K : Nat) (p0 : Int32) (p1 : Int32) (μ : MS) (r : Int32) (μ' : MS) (hf : fX4_readIn K p0 p1 μ = some (r, μ')) : CI l yX4_readIn (ws_ yX4_readIn cX4_readIn 3 (Option.some Jvm.ClassFile.FieldType.int)) (rmc 5 0 0 112) D d z [.ref o, .int p0, .int p1] (MP d o a μ) r (MP d o a μ') := by
  refine mI_of rfl (by decide) (Nat.le_of_ble_eq_true rfl) ?_
  intro p e s m args below meth c A Q ls S hK hP hD hZ hS hA hl hret
  have hx := S.1
  have hb := S.2.1
  have hts := S.2.2.2.2
  have hl : lv_has ls 3 [(0, .ref o), (1, .int p0), (2, .int p1)] := hl
  unfold fX4_readIn at hf
  refine lv_aload_n hx hb dX4_readIn_0 rfl (lv_at hl 0 rfl) ?_
  refine lv_iload_n hx hb dX4_readIn_1 rfl (lv_at hl 1 rfl) ?_
  refine lv_iload_n hx hb dX4_readIn_2 rfl (lv_at hl 2 rfl) ?_
  refine lv_iload_n hx hb dX4_readIn_3 rfl (lv_at hl 1 rfl) ?_
  refine lv_iconst (v := 1) hx hb dX4_readIn_4 (by decide) ?_
  refine lv_isub hx hb dX4_readIn_5 ?_
  obtain ⟨r_3, μ_1, h_2, hf⟩ := b2_some hf
  refine ci_call S hK hP hD hZ hS hA (tX4_readAbove l D d z o a K p0 p1 (p0 - (1 : Int32)) μ _ _ h_2) (cwV 3 hts (lw_V q1838 q1840 qs62 q101 q1841) rfl rfl rfl (by decide +kernel) ⟨Nat.le_of_ble_eq_true rfl, Nat.le_of_ble_eq_true rfl⟩) (ci := 0) (q0 := 0) rfl rfl rfl hl.1 rfl (Nat.le_of_ble_eq_true rfl) ⟨Nat.le_of_ble_eq_true rfl, Nat.le_of_ble_eq_true rfl⟩ dX4_readIn_6 ?_
  clear hP hD hS
  intro H locs hP hD hS
  clear h_2
  exact hret _ _ _ _ _ _ hf dX4_readIn_9 hP hD hS
def fX4_errorPosition (K : Nat) (μ : MS) : Option (Int32 × MS) :=
  some (μ.1 25, μ)
set_option maxHeartbeats 4000000 in
set_option maxRecDepth 100000 in
theorem tX4_errorPosition (l : Launch) (D : va_G) (d : Nat → ClassId) (z : ZT) (o : Nat) (a : Nat → Nat) (K : Nat) (μ : MS) (r : Int32) (μ' : MS) (hf : fX4_errorPosition K μ = some (r, μ')) : CI l yX4_errorPosition (ws_ yX4_errorPosition cX4_errorPosition 1 (Option.some Jvm.ClassFile.FieldType.int)) (rmc 0 0 0 0) D d z [.ref o] (MP d o a μ) r (MP d o a μ') := by
  refine mI_of rfl (by decide) (Nat.le_of_ble_eq_true rfl) ?_
  intro p e s m args below meth c A Q ls S hK hP hD hZ hS hA hl hret
  have hx := S.1
  have hb := S.2.1
  have hts := S.2.2.2.2
  have hl : lv_has ls 1 [(0, .ref o)] := hl
  unfold fX4_errorPosition at hf
  refine lv_aload_n hx hb dX4_errorPosition_0 rfl (lv_at hl 0 rfl) ?_
  refine m_get S hK hP 25 (by decide) q1625 rfl dX4_errorPosition_1 ?_
  exact hret _ _ _ _ _ _ hf dX4_errorPosition_4 hP hD hS
def fX4_takeOver_L175 (K : Nat) : Nat → Int32 → MS → Option MS
  | 0, _, _ => none
  | n + 1, x175_1, μ175 =>
    if (254 : Int32) ≤ x175_1 then
      ga (ix (0 : Int32) 16) <|
      ga (ix (0 : Int32) 254) <|
      nm (sF μ175 0 (upd (μ175.2.2 0) (0 : Int32).toNatClampNeg (μ175.2.2 11 (0 : Int32).toNatClampNeg))) fun μ_21 =>
      ga (ix (3 : Int32) 254) <|
      nm (sF μ_21 0 (upd (μ_21.2.2 0) (3 : Int32).toNatClampNeg (1 : Int32))) fun μ_23 =>
      nm (sI μ_23 2 (0 : Int32)) fun μ_24 =>
      nm (sI μ_24 44 (0 : Int32)) fun μ_25 =>
      nm (sI μ_25 39 (0 : Int32)) fun μ_26 =>
      some μ_26
    else
      ga (ix x175_1 254) <|
      nm (sF μ175 0 (upd (μ175.2.2 0) x175_1.toNatClampNeg (0 : Int32))) fun μ_28 =>
      fX4_takeOver_L175 K n (x175_1 + (1 : Int32)) μ_28
def fX4_takeOver_L135 (K : Nat) : Nat → Int32 → MS → Option MS
  | 0, _, _ => none
  | n + 1, x135_1, μ135 =>
    if (μ135.1 14) ≤ x135_1 then
      fX4_takeOver_L175 K K (0 : Int32) μ135
    else
      ga (ix x135_1 8) <|
      ga (ix x135_1 8) <|
      nm (sF μ135 15 (upd (μ135.2.2 15) x135_1.toNatClampNeg (μ135.2.2 32 x135_1.toNatClampNeg))) fun μ_31 =>
      ga (ix x135_1 8) <|
      ga (ix x135_1 8) <|
      nm (sF μ_31 16 (upd (μ_31.2.2 16) x135_1.toNatClampNeg (μ_31.2.2 33 x135_1.toNatClampNeg))) fun μ_34 =>
      fX4_takeOver_L135 K n (x135_1 + (1 : Int32)) μ_34
def fX4_takeOver_L75 (K : Nat) : Nat → Int32 → MS → Option MS
  | 0, _, _ => none
  | n + 1, x75_1, μ75 =>
    if (μ75.1 10) ≤ x75_1 then
      nm (sI μ75 14 (μ75.1 31)) fun μ_16 =>
      fX4_takeOver_L135 K K (0 : Int32) μ_16
    else
      ga (ix x75_1 16) <|
      ga (ix x75_1 16) <|
      nm (sF μ75 11 (upd (μ75.2.2 11) x75_1.toNatClampNeg (μ75.2.2 28 x75_1.toNatClampNeg))) fun μ_37 =>
      ga (ix x75_1 16) <|
      ga (ix x75_1 16) <|
      nm (sF μ_37 12 (upd (μ_37.2.2 12) x75_1.toNatClampNeg (μ_37.2.2 29 x75_1.toNatClampNeg))) fun μ_40 =>
      ga (ix x75_1 16) <|
      ga (ix x75_1 16) <|
      nm (sF μ_40 13 (upd (μ_40.2.2 13) x75_1.toNatClampNeg (μ_40.2.2 30 x75_1.toNatClampNeg))) fun μ_43 =>
      fX4_takeOver_L75 K n (x75_1 + (1 : Int32)) μ_43
def fX4_takeOver (K : Nat) (μ : MS) : Option MS :=
  nm (sI μ 3 (1 : Int32)) fun μ_1 =>
  ga (ix (0 : Int32) 6) <|
  nm (sI μ_1 4 (μ_1.2.2 26 (0 : Int32).toNatClampNeg)) fun μ_3 =>
  ga (ix (1 : Int32) 6) <|
  nm (sI μ_3 5 (μ_3.2.2 26 (1 : Int32).toNatClampNeg)) fun μ_5 =>
  ga (ix (2 : Int32) 6) <|
  nm (sI μ_5 6 (μ_5.2.2 26 (2 : Int32).toNatClampNeg)) fun μ_7 =>
  ga (ix (3 : Int32) 6) <|
  nm (sI μ_7 7 (μ_7.2.2 26 (3 : Int32).toNatClampNeg)) fun μ_9 =>
  ga (ix (4 : Int32) 6) <|
  nm (sI μ_9 8 (μ_9.2.2 26 (4 : Int32).toNatClampNeg)) fun μ_11 =>
  ga (ix (5 : Int32) 6) <|
  nm (sI μ_11 9 (μ_11.2.2 26 (5 : Int32).toNatClampNeg)) fun μ_13 =>
  nm (sI μ_13 10 (μ_13.1 27)) fun μ_14 =>
  fX4_takeOver_L75 K K (0 : Int32) μ_14
set_option maxHeartbeats 4000000 in
set_option maxRecDepth 100000 in
theorem tX4_takeOver (l : Launch) (D : va_G) (d : Nat → ClassId) (z : ZT) (o : Nat) (a : Nat → Nat) (K : Nat) (μ : MS) (μ' : MS) (hf : fX4_takeOver K μ = some μ') : CV l yX4_takeOver (ws_ yX4_takeOver cX4_takeOver 2 (Option.none : Option Jvm.ClassFile.FieldType)) (rmc 0 0 0 0) D d z [.ref o] (MP d o a μ) (MP d o a μ') := by
  refine mV_of rfl (by decide) (Nat.le_of_ble_eq_true rfl) ?_
  intro p e s m args below meth c A Q ls S hK hP hD hZ hS hA hl hret
  have hx := S.1
  have hb := S.2.1
  have hts := S.2.2.2.2
  have hl : lv_has ls 2 [(0, .ref o)] := hl
  have L175 : ∀ (n : Nat) (x175_1 : Int32) (μ175 : MS) (H : Heap) (locs : List Loc) (ls : Array Slot), fX4_takeOver_L175 K n x175_1 μ175 = some μ' → va_P D CL (MP d o a μ175) H → va_D A (MP d o a μ175) → va_S A s.heap H locs → lv_has ls 2 [(0, .ref o), (1, .int x175_1)] → W p l e (rmc 0 0 0 0) s m args below meth c H locs 0 0 Q (F0 m 175 ls []) := by
    intro n
    induction n with
    | zero =>
      intro x175_1 μ175 H locs ls hf hP hD hS hl
      rw [fX4_takeOver_L175] at hf
      cases hf
    | succ n ih =>
      intro x175_1 μ175 H locs ls hf hP hD hS hl
      rw [fX4_takeOver_L175] at hf
      refine lv_iload_n hx hb dX4_takeOver_175 rfl (lv_at hl 1 rfl) ?_
      refine lv_sipush (v := 254) hx hb dX4_takeOver_176 (by decide) ?_
      refine lv_icmp_ge (tgt := 195) hx hb dX4_takeOver_179 (by decide) (fun c_18 => ?_) (fun c_18 => ?_)
      · replace hf := it_t hf c_18
        clear c_18
        refine lv_aload_n hx hb dX4_takeOver_195 rfl (lv_at hl 0 rfl) ?_
        refine m_get S hK hP 0 (by decide) q1600 rfl dX4_takeOver_196 ?_
        refine lv_iconst (v := 0) hx hb dX4_takeOver_199 (by decide) ?_
        refine lv_aload_n hx hb dX4_takeOver_200 rfl (lv_at hl 0 rfl) ?_
        refine m_get S hK hP 11 (by decide) q1611 rfl dX4_takeOver_201 ?_
        refine lv_iconst (v := 0) hx hb dX4_takeOver_204 (by decide) ?_
        obtain ⟨g_19, hf⟩ := ga_some hf
        refine m_ild S hK hP 11 3 rfl g_19 dX4_takeOver_205 ?_
        clear g_19
        obtain ⟨g_20, hf⟩ := ga_some hf
        refine m_ist S hK hP hD hS 0 1 rfl g_20 rfl dX4_takeOver_206 ?_
        clear hP hD hS
        intro μ_21 e_ H locs hP hD hS
        replace hf := nm_some hf μ_21 e_
        clear e_
        clear g_20
        refine lv_aload_n hx hb dX4_takeOver_207 rfl (lv_at hl 0 rfl) ?_
        refine m_get S hK hP 0 (by decide) q1600 rfl dX4_takeOver_208 ?_
        refine lv_iconst (v := 3) hx hb dX4_takeOver_211 (by decide) ?_
        refine lv_iconst (v := 1) hx hb dX4_takeOver_212 (by decide) ?_
        obtain ⟨g_22, hf⟩ := ga_some hf
        refine m_ist S hK hP hD hS 0 1 rfl g_22 rfl dX4_takeOver_213 ?_
        clear hP hD hS
        intro μ_23 e_ H locs hP hD hS
        replace hf := nm_some hf μ_23 e_
        clear e_
        clear g_22
        refine lv_aload_n hx hb dX4_takeOver_214 rfl (lv_at hl 0 rfl) ?_
        refine lv_iconst (v := 0) hx hb dX4_takeOver_215 (by decide) ?_
        refine m_putI S hK hP hD hS 2 (by decide) q1602 rfl rfl rfl rfl rfl dX4_takeOver_216 ?_
        clear hP hD hS
        intro μ_24 e_ H locs hP hD hS
        replace hf := nm_some hf μ_24 e_
        clear e_
        refine lv_aload_n hx hb dX4_takeOver_219 rfl (lv_at hl 0 rfl) ?_
        refine lv_iconst (v := 0) hx hb dX4_takeOver_220 (by decide) ?_
        refine m_putI S hK hP hD hS 44 (by decide) q1644 rfl rfl rfl rfl rfl dX4_takeOver_221 ?_
        clear hP hD hS
        intro μ_25 e_ H locs hP hD hS
        replace hf := nm_some hf μ_25 e_
        clear e_
        refine lv_aload_n hx hb dX4_takeOver_224 rfl (lv_at hl 0 rfl) ?_
        refine lv_iconst (v := 0) hx hb dX4_takeOver_225 (by decide) ?_
        refine m_putI S hK hP hD hS 39 (by decide) q1639 rfl rfl rfl rfl rfl dX4_takeOver_226 ?_
        clear hP hD hS
        intro μ_26 e_ H locs hP hD hS
        replace hf := nm_some hf μ_26 e_
        clear e_
        exact hret _ _ _ _ _ hf dX4_takeOver_229 hP hD hS
      · replace hf := it_f hf c_18
        clear c_18
        refine lv_aload_n hx hb dX4_takeOver_182 rfl (lv_at hl 0 rfl) ?_
        refine m_get S hK hP 0 (by decide) q1600 rfl dX4_takeOver_183 ?_
        refine lv_iload_n hx hb dX4_takeOver_186 rfl (lv_at hl 1 rfl) ?_
        refine lv_iconst (v := 0) hx hb dX4_takeOver_187 (by decide) ?_
        obtain ⟨g_27, hf⟩ := ga_some hf
        refine m_ist S hK hP hD hS 0 1 rfl g_27 rfl dX4_takeOver_188 ?_
        clear hP hD hS
        intro μ_28 e_ H locs hP hD hS
        replace hf := nm_some hf μ_28 e_
        clear e_
        clear g_27
        refine lv_iinc (v := x175_1 + (1 : Int32)) (lv' := [(1, .int (x175_1 + (1 : Int32))), (0, .ref o)]) hx hb dX4_takeOver_189 hl (k := 1) rfl rfl (by decide) rfl (fun ls hl => ?_)
        refine lv_goto (tgt := 175) hx hb dX4_takeOver_192 (by decide) ?_
        exact ih (x175_1 + (1 : Int32)) μ_28 _ _ _ hf hP hD hS (lv_sub hl [1, 0] rfl)
  have L135 : ∀ (n : Nat) (x135_1 : Int32) (μ135 : MS) (H : Heap) (locs : List Loc) (ls : Array Slot), fX4_takeOver_L135 K n x135_1 μ135 = some μ' → va_P D CL (MP d o a μ135) H → va_D A (MP d o a μ135) → va_S A s.heap H locs → lv_has ls 2 [(0, .ref o), (1, .int x135_1)] → W p l e (rmc 0 0 0 0) s m args below meth c H locs 0 0 Q (F0 m 135 ls []) := by
    intro n
    induction n with
    | zero =>
      intro x135_1 μ135 H locs ls hf hP hD hS hl
      rw [fX4_takeOver_L135] at hf
      cases hf
    | succ n ih =>
      intro x135_1 μ135 H locs ls hf hP hD hS hl
      rw [fX4_takeOver_L135] at hf
      refine lv_iload_n hx hb dX4_takeOver_135 rfl (lv_at hl 1 rfl) ?_
      refine lv_aload_n hx hb dX4_takeOver_136 rfl (lv_at hl 0 rfl) ?_
      refine m_get S hK hP 14 (by decide) q1614 rfl dX4_takeOver_137 ?_
      refine lv_icmp_ge (tgt := 173) hx hb dX4_takeOver_140 (by decide) (fun c_17 => ?_) (fun c_17 => ?_)
      · replace hf := it_t hf c_17
        clear c_17
        refine lv_iconst (v := 0) hx hb dX4_takeOver_173 (by decide) ?_
        refine lv_istore_n (lv' := [(1, .int (0 : Int32)), (0, .ref o)]) hx hb dX4_takeOver_174 rfl hl (by decide) rfl (fun ls hl => ?_)
        exact L175 K (0 : Int32) μ135 _ _ _ hf hP hD hS (lv_sub hl [1, 0] rfl)
      · replace hf := it_f hf c_17
        clear c_17
        refine lv_aload_n hx hb dX4_takeOver_143 rfl (lv_at hl 0 rfl) ?_
        refine m_get S hK hP 15 (by decide) q1615 rfl dX4_takeOver_144 ?_
        refine lv_iload_n hx hb dX4_takeOver_147 rfl (lv_at hl 1 rfl) ?_
        refine lv_aload_n hx hb dX4_takeOver_148 rfl (lv_at hl 0 rfl) ?_
        refine m_get S hK hP 32 (by decide) q1632 rfl dX4_takeOver_149 ?_
        refine lv_iload_n hx hb dX4_takeOver_152 rfl (lv_at hl 1 rfl) ?_
        obtain ⟨g_29, hf⟩ := ga_some hf
        refine m_ild S hK hP 32 13 rfl g_29 dX4_takeOver_153 ?_
        clear g_29
        obtain ⟨g_30, hf⟩ := ga_some hf
        refine m_ist S hK hP hD hS 15 6 rfl g_30 rfl dX4_takeOver_154 ?_
        clear hP hD hS
        intro μ_31 e_ H locs hP hD hS
        replace hf := nm_some hf μ_31 e_
        clear e_
        clear g_30
        refine lv_aload_n hx hb dX4_takeOver_155 rfl (lv_at hl 0 rfl) ?_
        refine m_get S hK hP 16 (by decide) q1616 rfl dX4_takeOver_156 ?_
        refine lv_iload_n hx hb dX4_takeOver_159 rfl (lv_at hl 1 rfl) ?_
        refine lv_aload_n hx hb dX4_takeOver_160 rfl (lv_at hl 0 rfl) ?_
        refine m_get S hK hP 33 (by decide) q1633 rfl dX4_takeOver_161 ?_
        refine lv_iload_n hx hb dX4_takeOver_164 rfl (lv_at hl 1 rfl) ?_
        obtain ⟨g_32, hf⟩ := ga_some hf
        refine m_ild S hK hP 33 14 rfl g_32 dX4_takeOver_165 ?_
        clear g_32
        obtain ⟨g_33, hf⟩ := ga_some hf
        refine m_ist S hK hP hD hS 16 7 rfl g_33 rfl dX4_takeOver_166 ?_
        clear hP hD hS
        intro μ_34 e_ H locs hP hD hS
        replace hf := nm_some hf μ_34 e_
        clear e_
        clear g_33
        refine lv_iinc (v := x135_1 + (1 : Int32)) (lv' := [(1, .int (x135_1 + (1 : Int32))), (0, .ref o)]) hx hb dX4_takeOver_167 hl (k := 1) rfl rfl (by decide) rfl (fun ls hl => ?_)
        refine lv_goto (tgt := 135) hx hb dX4_takeOver_170 (by decide) ?_
        exact ih (x135_1 + (1 : Int32)) μ_34 _ _ _ hf hP hD hS (lv_sub hl [1, 0] rfl)
  have L75 : ∀ (n : Nat) (x75_1 : Int32) (μ75 : MS) (H : Heap) (locs : List Loc) (ls : Array Slot), fX4_takeOver_L75 K n x75_1 μ75 = some μ' → va_P D CL (MP d o a μ75) H → va_D A (MP d o a μ75) → va_S A s.heap H locs → lv_has ls 2 [(0, .ref o), (1, .int x75_1)] → W p l e (rmc 0 0 0 0) s m args below meth c H locs 0 0 Q (F0 m 75 ls []) := by
    intro n
    induction n with
    | zero =>
      intro x75_1 μ75 H locs ls hf hP hD hS hl
      rw [fX4_takeOver_L75] at hf
      cases hf
    | succ n ih =>
      intro x75_1 μ75 H locs ls hf hP hD hS hl
      rw [fX4_takeOver_L75] at hf
      refine lv_iload_n hx hb dX4_takeOver_75 rfl (lv_at hl 1 rfl) ?_
      refine lv_aload_n hx hb dX4_takeOver_76 rfl (lv_at hl 0 rfl) ?_
      refine m_get S hK hP 10 (by decide) q1610 rfl dX4_takeOver_77 ?_
      refine lv_icmp_ge (tgt := 125) hx hb dX4_takeOver_80 (by decide) (fun c_15 => ?_) (fun c_15 => ?_)
      · replace hf := it_t hf c_15
        clear c_15
        refine lv_aload_n hx hb dX4_takeOver_125 rfl (lv_at hl 0 rfl) ?_
        refine lv_aload_n hx hb dX4_takeOver_126 rfl (lv_at hl 0 rfl) ?_
        refine m_get S hK hP 31 (by decide) q1631 rfl dX4_takeOver_127 ?_
        refine m_putI S hK hP hD hS 14 (by decide) q1614 rfl rfl rfl rfl rfl dX4_takeOver_130 ?_
        clear hP hD hS
        intro μ_16 e_ H locs hP hD hS
        replace hf := nm_some hf μ_16 e_
        clear e_
        refine lv_iconst (v := 0) hx hb dX4_takeOver_133 (by decide) ?_
        refine lv_istore_n (lv' := [(1, .int (0 : Int32)), (0, .ref o)]) hx hb dX4_takeOver_134 rfl hl (by decide) rfl (fun ls hl => ?_)
        exact L135 K (0 : Int32) μ_16 _ _ _ hf hP hD hS (lv_sub hl [1, 0] rfl)
      · replace hf := it_f hf c_15
        clear c_15
        refine lv_aload_n hx hb dX4_takeOver_83 rfl (lv_at hl 0 rfl) ?_
        refine m_get S hK hP 11 (by decide) q1611 rfl dX4_takeOver_84 ?_
        refine lv_iload_n hx hb dX4_takeOver_87 rfl (lv_at hl 1 rfl) ?_
        refine lv_aload_n hx hb dX4_takeOver_88 rfl (lv_at hl 0 rfl) ?_
        refine m_get S hK hP 28 (by decide) q1628 rfl dX4_takeOver_89 ?_
        refine lv_iload_n hx hb dX4_takeOver_92 rfl (lv_at hl 1 rfl) ?_
        obtain ⟨g_35, hf⟩ := ga_some hf
        refine m_ild S hK hP 28 10 rfl g_35 dX4_takeOver_93 ?_
        clear g_35
        obtain ⟨g_36, hf⟩ := ga_some hf
        refine m_ist S hK hP hD hS 11 3 rfl g_36 rfl dX4_takeOver_94 ?_
        clear hP hD hS
        intro μ_37 e_ H locs hP hD hS
        replace hf := nm_some hf μ_37 e_
        clear e_
        clear g_36
        refine lv_aload_n hx hb dX4_takeOver_95 rfl (lv_at hl 0 rfl) ?_
        refine m_get S hK hP 12 (by decide) q1612 rfl dX4_takeOver_96 ?_
        refine lv_iload_n hx hb dX4_takeOver_99 rfl (lv_at hl 1 rfl) ?_
        refine lv_aload_n hx hb dX4_takeOver_100 rfl (lv_at hl 0 rfl) ?_
        refine m_get S hK hP 29 (by decide) q1629 rfl dX4_takeOver_101 ?_
        refine lv_iload_n hx hb dX4_takeOver_104 rfl (lv_at hl 1 rfl) ?_
        obtain ⟨g_38, hf⟩ := ga_some hf
        refine m_ild S hK hP 29 11 rfl g_38 dX4_takeOver_105 ?_
        clear g_38
        obtain ⟨g_39, hf⟩ := ga_some hf
        refine m_ist S hK hP hD hS 12 4 rfl g_39 rfl dX4_takeOver_106 ?_
        clear hP hD hS
        intro μ_40 e_ H locs hP hD hS
        replace hf := nm_some hf μ_40 e_
        clear e_
        clear g_39
        refine lv_aload_n hx hb dX4_takeOver_107 rfl (lv_at hl 0 rfl) ?_
        refine m_get S hK hP 13 (by decide) q1613 rfl dX4_takeOver_108 ?_
        refine lv_iload_n hx hb dX4_takeOver_111 rfl (lv_at hl 1 rfl) ?_
        refine lv_aload_n hx hb dX4_takeOver_112 rfl (lv_at hl 0 rfl) ?_
        refine m_get S hK hP 30 (by decide) q1630 rfl dX4_takeOver_113 ?_
        refine lv_iload_n hx hb dX4_takeOver_116 rfl (lv_at hl 1 rfl) ?_
        obtain ⟨g_41, hf⟩ := ga_some hf
        refine m_ild S hK hP 30 12 rfl g_41 dX4_takeOver_117 ?_
        clear g_41
        obtain ⟨g_42, hf⟩ := ga_some hf
        refine m_ist S hK hP hD hS 13 5 rfl g_42 rfl dX4_takeOver_118 ?_
        clear hP hD hS
        intro μ_43 e_ H locs hP hD hS
        replace hf := nm_some hf μ_43 e_
        clear e_
        clear g_42
        refine lv_iinc (v := x75_1 + (1 : Int32)) (lv' := [(1, .int (x75_1 + (1 : Int32))), (0, .ref o)]) hx hb dX4_takeOver_119 hl (k := 1) rfl rfl (by decide) rfl (fun ls hl => ?_)
        refine lv_goto (tgt := 75) hx hb dX4_takeOver_122 (by decide) ?_
        exact ih (x75_1 + (1 : Int32)) μ_43 _ _ _ hf hP hD hS (lv_sub hl [1, 0] rfl)
  unfold fX4_takeOver at hf
  refine lv_aload_n hx hb dX4_takeOver_0 rfl (lv_at hl 0 rfl) ?_
  refine lv_iconst (v := 1) hx hb dX4_takeOver_1 (by decide) ?_
  refine m_putI S hK hP hD hS 3 (by decide) q1603 rfl (by decide) (by decide) rfl rfl dX4_takeOver_2 ?_
  clear hP hD hS
  intro μ_1 e_ H locs hP hD hS
  replace hf := nm_some hf μ_1 e_
  clear e_
  refine lv_aload_n hx hb dX4_takeOver_5 rfl (lv_at hl 0 rfl) ?_
  refine lv_aload_n hx hb dX4_takeOver_6 rfl (lv_at hl 0 rfl) ?_
  refine m_get S hK hP 26 (by decide) q1626 rfl dX4_takeOver_7 ?_
  refine lv_iconst (v := 0) hx hb dX4_takeOver_10 (by decide) ?_
  obtain ⟨g_2, hf⟩ := ga_some hf
  refine m_ild S hK hP 26 9 rfl g_2 dX4_takeOver_11 ?_
  clear g_2
  refine m_putI S hK hP hD hS 4 (by decide) q1604 rfl rfl rfl rfl rfl dX4_takeOver_12 ?_
  clear hP hD hS
  intro μ_3 e_ H locs hP hD hS
  replace hf := nm_some hf μ_3 e_
  clear e_
  refine lv_aload_n hx hb dX4_takeOver_15 rfl (lv_at hl 0 rfl) ?_
  refine lv_aload_n hx hb dX4_takeOver_16 rfl (lv_at hl 0 rfl) ?_
  refine m_get S hK hP 26 (by decide) q1626 rfl dX4_takeOver_17 ?_
  refine lv_iconst (v := 1) hx hb dX4_takeOver_20 (by decide) ?_
  obtain ⟨g_4, hf⟩ := ga_some hf
  refine m_ild S hK hP 26 9 rfl g_4 dX4_takeOver_21 ?_
  clear g_4
  refine m_putI S hK hP hD hS 5 (by decide) q1605 rfl rfl rfl rfl rfl dX4_takeOver_22 ?_
  clear hP hD hS
  intro μ_5 e_ H locs hP hD hS
  replace hf := nm_some hf μ_5 e_
  clear e_
  refine lv_aload_n hx hb dX4_takeOver_25 rfl (lv_at hl 0 rfl) ?_
  refine lv_aload_n hx hb dX4_takeOver_26 rfl (lv_at hl 0 rfl) ?_
  refine m_get S hK hP 26 (by decide) q1626 rfl dX4_takeOver_27 ?_
  refine lv_iconst (v := 2) hx hb dX4_takeOver_30 (by decide) ?_
  obtain ⟨g_6, hf⟩ := ga_some hf
  refine m_ild S hK hP 26 9 rfl g_6 dX4_takeOver_31 ?_
  clear g_6
  refine m_putI S hK hP hD hS 6 (by decide) q1606 rfl rfl rfl rfl rfl dX4_takeOver_32 ?_
  clear hP hD hS
  intro μ_7 e_ H locs hP hD hS
  replace hf := nm_some hf μ_7 e_
  clear e_
  refine lv_aload_n hx hb dX4_takeOver_35 rfl (lv_at hl 0 rfl) ?_
  refine lv_aload_n hx hb dX4_takeOver_36 rfl (lv_at hl 0 rfl) ?_
  refine m_get S hK hP 26 (by decide) q1626 rfl dX4_takeOver_37 ?_
  refine lv_iconst (v := 3) hx hb dX4_takeOver_40 (by decide) ?_
  obtain ⟨g_8, hf⟩ := ga_some hf
  refine m_ild S hK hP 26 9 rfl g_8 dX4_takeOver_41 ?_
  clear g_8
  refine m_putI S hK hP hD hS 7 (by decide) q1607 rfl rfl rfl rfl rfl dX4_takeOver_42 ?_
  clear hP hD hS
  intro μ_9 e_ H locs hP hD hS
  replace hf := nm_some hf μ_9 e_
  clear e_
  refine lv_aload_n hx hb dX4_takeOver_45 rfl (lv_at hl 0 rfl) ?_
  refine lv_aload_n hx hb dX4_takeOver_46 rfl (lv_at hl 0 rfl) ?_
  refine m_get S hK hP 26 (by decide) q1626 rfl dX4_takeOver_47 ?_
  refine lv_iconst (v := 4) hx hb dX4_takeOver_50 (by decide) ?_
  obtain ⟨g_10, hf⟩ := ga_some hf
  refine m_ild S hK hP 26 9 rfl g_10 dX4_takeOver_51 ?_
  clear g_10
  refine m_putI S hK hP hD hS 8 (by decide) q1608 rfl rfl rfl rfl rfl dX4_takeOver_52 ?_
  clear hP hD hS
  intro μ_11 e_ H locs hP hD hS
  replace hf := nm_some hf μ_11 e_
  clear e_
  refine lv_aload_n hx hb dX4_takeOver_55 rfl (lv_at hl 0 rfl) ?_
  refine lv_aload_n hx hb dX4_takeOver_56 rfl (lv_at hl 0 rfl) ?_
  refine m_get S hK hP 26 (by decide) q1626 rfl dX4_takeOver_57 ?_
  refine lv_iconst (v := 5) hx hb dX4_takeOver_60 (by decide) ?_
  obtain ⟨g_12, hf⟩ := ga_some hf
  refine m_ild S hK hP 26 9 rfl g_12 dX4_takeOver_61 ?_
  clear g_12
  refine m_putI S hK hP hD hS 9 (by decide) q1609 rfl rfl rfl rfl rfl dX4_takeOver_62 ?_
  clear hP hD hS
  intro μ_13 e_ H locs hP hD hS
  replace hf := nm_some hf μ_13 e_
  clear e_
  refine lv_aload_n hx hb dX4_takeOver_65 rfl (lv_at hl 0 rfl) ?_
  refine lv_aload_n hx hb dX4_takeOver_66 rfl (lv_at hl 0 rfl) ?_
  refine m_get S hK hP 27 (by decide) q1627 rfl dX4_takeOver_67 ?_
  refine m_putI S hK hP hD hS 10 (by decide) q1610 rfl rfl rfl rfl rfl dX4_takeOver_70 ?_
  clear hP hD hS
  intro μ_14 e_ H locs hP hD hS
  replace hf := nm_some hf μ_14 e_
  clear e_
  refine lv_iconst (v := 0) hx hb dX4_takeOver_73 (by decide) ?_
  refine lv_istore_n (lv' := [(1, .int (0 : Int32)), (0, .ref o)]) hx hb dX4_takeOver_74 rfl hl (by decide) rfl (fun ls hl => ?_)
  exact L75 K (0 : Int32) μ_14 _ _ _ hf hP hD hS (lv_sub hl [1, 0] rfl)
def fX4_pointBelow_L7 (K : Nat) : Nat → Int32 → Int32 → MS → Option (Int32 × MS)
  | 0, _, _, _ => none
  | n + 1, x7_1, x7_2, μ7 =>
    if x7_2 < 0 then
      some (x7_2, μ7)
    else
      ga (ix x7_2 16) <|
      if (μ7.2.2 11 x7_2.toNatClampNeg) ≤ x7_1 then
        some (x7_2, μ7)
      else
        fX4_pointBelow_L7 K n x7_1 (x7_2 + (-1 : Int32)) μ7
def fX4_pointBelow (K : Nat) (p0 : Int32) (μ : MS) : Option (Int32 × MS) :=
  nm ((μ.1 10) - (1 : Int32)) fun v_1 =>
  fX4_pointBelow_L7 K K p0 v_1 μ
set_option maxHeartbeats 4000000 in
set_option maxRecDepth 100000 in
theorem tX4_pointBelow (l : Launch) (D : va_G) (d : Nat → ClassId) (z : ZT) (o : Nat) (a : Nat → Nat) (K : Nat) (p0 : Int32) (μ : MS) (r : Int32) (μ' : MS) (hf : fX4_pointBelow K p0 μ = some (r, μ')) : CI l yX4_pointBelow (ws_ yX4_pointBelow cX4_pointBelow 3 (Option.some Jvm.ClassFile.FieldType.int)) (rmc 0 0 0 0) D d z [.ref o, .int p0] (MP d o a μ) r (MP d o a μ') := by
  refine mI_of rfl (by decide) (Nat.le_of_ble_eq_true rfl) ?_
  intro p e s m args below meth c A Q ls S hK hP hD hZ hS hA hl hret
  have hx := S.1
  have hb := S.2.1
  have hts := S.2.2.2.2
  have hl : lv_has ls 3 [(0, .ref o), (1, .int p0)] := hl
  have L7 : ∀ (n : Nat) (x7_1 : Int32) (x7_2 : Int32) (μ7 : MS) (H : Heap) (locs : List Loc) (ls : Array Slot), fX4_pointBelow_L7 K n x7_1 x7_2 μ7 = some (r, μ') → va_P D CL (MP d o a μ7) H → va_D A (MP d o a μ7) → va_S A s.heap H locs → lv_has ls 3 [(0, .ref o), (1, .int x7_1), (2, .int x7_2)] → W p l e (rmc 0 0 0 0) s m args below meth c H locs 0 0 Q (F0 m 7 ls []) := by
    intro n
    induction n with
    | zero =>
      intro x7_1 x7_2 μ7 H locs ls hf hP hD hS hl
      rw [fX4_pointBelow_L7] at hf
      cases hf
    | succ n ih =>
      intro x7_1 x7_2 μ7 H locs ls hf hP hD hS hl
      rw [fX4_pointBelow_L7] at hf
      refine lv_iload_n hx hb dX4_pointBelow_7 rfl (lv_at hl 2 rfl) ?_
      refine lv_if_lt (tgt := 27) hx hb dX4_pointBelow_8 (by decide) (fun c_2 => ?_) (fun c_2 => ?_)
      · replace hf := it_t hf c_2
        clear c_2
        refine lv_iload_n hx hb dX4_pointBelow_27 rfl (lv_at hl 2 rfl) ?_
        exact hret _ _ _ _ _ _ hf dX4_pointBelow_28 hP hD hS
      · replace hf := it_f hf c_2
        clear c_2
        refine lv_aload_n hx hb dX4_pointBelow_11 rfl (lv_at hl 0 rfl) ?_
        refine m_get S hK hP 11 (by decide) q1611 rfl dX4_pointBelow_12 ?_
        refine lv_iload_n hx hb dX4_pointBelow_15 rfl (lv_at hl 2 rfl) ?_
        obtain ⟨g_3, hf⟩ := ga_some hf
        refine m_ild S hK hP 11 3 rfl g_3 dX4_pointBelow_16 ?_
        clear g_3
        refine lv_iload_n hx hb dX4_pointBelow_17 rfl (lv_at hl 1 rfl) ?_
        refine lv_icmp_le (tgt := 27) hx hb dX4_pointBelow_18 (by decide) (fun c_4 => ?_) (fun c_4 => ?_)
        · replace hf := it_t hf c_4
          clear c_4
          refine lv_iload_n hx hb dX4_pointBelow_27 rfl (lv_at hl 2 rfl) ?_
          exact hret _ _ _ _ _ _ hf dX4_pointBelow_28 hP hD hS
        · replace hf := it_f hf c_4
          clear c_4
          refine lv_iinc (v := x7_2 + (-1 : Int32)) (lv' := [(2, .int (x7_2 + (-1 : Int32))), (0, .ref o), (1, .int x7_1)]) hx hb dX4_pointBelow_21 hl (k := 2) rfl rfl (by decide) rfl (fun ls hl => ?_)
          refine lv_goto (tgt := 7) hx hb dX4_pointBelow_24 (by decide) ?_
          exact ih x7_1 (x7_2 + (-1 : Int32)) μ7 _ _ _ hf hP hD hS (lv_sub hl [1, 2, 0] rfl)
  unfold fX4_pointBelow at hf
  refine lv_aload_n hx hb dX4_pointBelow_0 rfl (lv_at hl 0 rfl) ?_
  refine m_get S hK hP 10 (by decide) q1610 rfl dX4_pointBelow_1 ?_
  refine lv_iconst (v := 1) hx hb dX4_pointBelow_4 (by decide) ?_
  refine lv_isub hx hb dX4_pointBelow_5 ?_
  refine lv_topi (fun v_1 e_ => ?_)
  replace hf := nm_some hf v_1 e_
  clear e_
  refine lv_istore_n (lv' := [(2, .int v_1), (0, .ref o), (1, .int p0)]) hx hb dX4_pointBelow_6 rfl hl (by decide) rfl (fun ls hl => ?_)
  exact L7 K p0 v_1 μ _ _ _ hf hP hD hS (lv_sub hl [1, 2, 0] rfl)
def fX4_between (K : Nat) (p0 : Int32) (p1 : Int32) (p2 : Int64) (p3 : Int64) (μ : MS) : Option (Int64 × MS) :=
  ga (ix p0 16) <|
  ga (ix (p0 + (1 : Int32)) 16) <|
  ga (ix p0 16) <|
  ga (¬ (((μ.2.2 11 (p0 + (1 : Int32)).toNatClampNeg) - (μ.2.2 11 p0.toNatClampNeg)).toInt64) = 0) <|
  some (p2 + (((p3 - p2) * ((p1 - (μ.2.2 11 p0.toNatClampNeg)).toInt64)) / (((μ.2.2 11 (p0 + (1 : Int32)).toNatClampNeg) - (μ.2.2 11 p0.toNatClampNeg)).toInt64)), μ)
set_option maxHeartbeats 4000000 in
set_option maxRecDepth 100000 in
theorem tX4_between (l : Launch) (D : va_G) (d : Nat → ClassId) (z : ZT) (o : Nat) (a : Nat → Nat) (K : Nat) (p0 : Int32) (p1 : Int32) (p2 : Int64) (p3 : Int64) (μ : MS) (r : Int64) (μ' : MS) (hf : fX4_between K p0 p1 p2 p3 μ = some (r, μ')) : CJ l yX4_between (ws_ yX4_between cX4_between 7 (Option.some Jvm.ClassFile.FieldType.long)) (rmc 0 0 0 0) D d z [.ref o, .int p0, .int p1, .long p2, .long p3] (MP d o a μ) r (MP d o a μ') := by
  refine mJ_of rfl (by decide) (Nat.le_of_ble_eq_true rfl) ?_
  intro p e s m args below meth c A Q ls S hK hP hD hZ hS hA hl hret
  have hx := S.1
  have hb := S.2.1
  have hts := S.2.2.2.2
  have hl : lv_has ls 7 [(0, .ref o), (1, .int p0), (2, .int p1), (3, .long p2), (5, .long p3)] := hl
  unfold fX4_between at hf
  refine lv_lload_n hx hb dX4_between_0 rfl (lv_at hl 3 rfl) ?_
  refine lv_lload hx hb dX4_between_1 (lv_at hl 4 rfl) ?_
  refine lv_lload_n hx hb dX4_between_3 rfl (lv_at hl 3 rfl) ?_
  refine lv_lsub hx hb dX4_between_4 ?_
  refine lv_iload_n hx hb dX4_between_5 rfl (lv_at hl 2 rfl) ?_
  refine lv_aload_n hx hb dX4_between_6 rfl (lv_at hl 0 rfl) ?_
  refine m_get S hK hP 11 (by decide) q1611 rfl dX4_between_7 ?_
  refine lv_iload_n hx hb dX4_between_10 rfl (lv_at hl 1 rfl) ?_
  obtain ⟨g_1, hf⟩ := ga_some hf
  refine m_ild S hK hP 11 3 rfl g_1 dX4_between_11 ?_
  clear g_1
  refine lv_isub hx hb dX4_between_12 ?_
  refine lv_i2l (v := (p1 - (μ.2.2 11 p0.toNatClampNeg)).toInt64) hx hb dX4_between_13 rfl ?_
  refine lv_lmul hx hb dX4_between_14 ?_
  refine lv_aload_n hx hb dX4_between_15 rfl (lv_at hl 0 rfl) ?_
  refine m_get S hK hP 11 (by decide) q1611 rfl dX4_between_16 ?_
  refine lv_iload_n hx hb dX4_between_19 rfl (lv_at hl 1 rfl) ?_
  refine lv_iconst (v := 1) hx hb dX4_between_20 (by decide) ?_
  refine lv_iadd hx hb dX4_between_21 ?_
  obtain ⟨g_2, hf⟩ := ga_some hf
  refine m_ild S hK hP 11 3 rfl g_2 dX4_between_22 ?_
  clear g_2
  refine lv_aload_n hx hb dX4_between_23 rfl (lv_at hl 0 rfl) ?_
  refine m_get S hK hP 11 (by decide) q1611 rfl dX4_between_24 ?_
  refine lv_iload_n hx hb dX4_between_27 rfl (lv_at hl 1 rfl) ?_
  obtain ⟨g_3, hf⟩ := ga_some hf
  refine m_ild S hK hP 11 3 rfl g_3 dX4_between_28 ?_
  clear g_3
  refine lv_isub hx hb dX4_between_29 ?_
  refine lv_i2l (v := ((μ.2.2 11 (p0 + (1 : Int32)).toNatClampNeg) - (μ.2.2 11 p0.toNatClampNeg)).toInt64) hx hb dX4_between_30 rfl ?_
  obtain ⟨g_4, hf⟩ := ga_some hf
  refine lv_ldiv hx hb dX4_between_31 g_4 ?_
  refine lv_ladd hx hb dX4_between_32 ?_
  exact hret _ _ _ _ _ _ hf dX4_between_33 hP hD hS
def fX4_resistanceAt (K : Nat) (p0 : Int32) (μ : MS) : Option (Int64 × MS) :=
  b2 (fX4_pointBelow K p0 μ) fun r_3 μ_1 =>
  if 0 ≤ r_3 then
    if r_3 = ((μ_1.1 10) - (1 : Int32)) then
      ga (ix r_3 16) <|
      some ((μ_1.2.2 12 r_3.toNatClampNeg).toInt64, μ_1)
    else
      ga (ix r_3 16) <|
      ga (ix (r_3 + (1 : Int32)) 16) <|
      b2 (fX4_between K r_3 p0 ((μ_1.2.2 12 r_3.toNatClampNeg).toInt64) ((μ_1.2.2 12 (r_3 + (1 : Int32)).toNatClampNeg).toInt64) μ_1) fun r_10 μ_8 =>
      some (r_10, μ_8)
  else
    ga (ix (0 : Int32) 16) <|
    some ((μ_1.2.2 12 (0 : Int32).toNatClampNeg).toInt64, μ_1)
set_option maxHeartbeats 4000000 in
set_option maxRecDepth 100000 in
theorem tX4_resistanceAt (l : Launch) (D : va_G) (d : Nat → ClassId) (z : ZT) (o : Nat) (a : Nat → Nat) (K : Nat) (p0 : Int32) (μ : MS) (r : Int64) (μ' : MS) (hf : fX4_resistanceAt K p0 μ = some (r, μ')) : CJ l yX4_resistanceAt (ws_ yX4_resistanceAt cX4_resistanceAt 3 (Option.some Jvm.ClassFile.FieldType.long)) (rmc 1 0 0 26) D d z [.ref o, .int p0] (MP d o a μ) r (MP d o a μ') := by
  refine mJ_of rfl (by decide) (Nat.le_of_ble_eq_true rfl) ?_
  intro p e s m args below meth c A Q ls S hK hP hD hZ hS hA hl hret
  have hx := S.1
  have hb := S.2.1
  have hts := S.2.2.2.2
  have hl : lv_has ls 3 [(0, .ref o), (1, .int p0)] := hl
  unfold fX4_resistanceAt at hf
  refine lv_aload_n hx hb dX4_resistanceAt_0 rfl (lv_at hl 0 rfl) ?_
  refine lv_iload_n hx hb dX4_resistanceAt_1 rfl (lv_at hl 1 rfl) ?_
  obtain ⟨r_3, μ_1, h_2, hf⟩ := b2_some hf
  refine ci_call S hK hP hD hZ hS hA (tX4_pointBelow l D d z o a K p0 μ _ _ h_2) (cwV 1 hts (lw_V q1879 q1881 qs68 q101 q1882) rfl rfl rfl (by decide +kernel) ⟨Nat.le_of_ble_eq_true rfl, Nat.le_of_ble_eq_true rfl⟩) (ci := 0) (q0 := 0) rfl rfl rfl hl.1 rfl (Nat.le_of_ble_eq_true rfl) ⟨Nat.le_of_ble_eq_true rfl, Nat.le_of_ble_eq_true rfl⟩ dX4_resistanceAt_2 ?_
  clear hP hD hS
  intro H locs hP hD hS
  clear h_2
  refine lv_istore_n (lv' := [(2, .int r_3), (0, .ref o), (1, .int p0)]) hx hb dX4_resistanceAt_5 rfl hl (by decide) rfl (fun ls hl => ?_)
  refine lv_iload_n hx hb dX4_resistanceAt_6 rfl (lv_at hl 0 rfl) ?_
  refine lv_if_ge (tgt := 18) hx hb dX4_resistanceAt_7 (by decide) (fun c_4 => ?_) (fun c_4 => ?_)
  · replace hf := it_t hf c_4
    clear c_4
    refine lv_iload_n hx hb dX4_resistanceAt_18 rfl (lv_at hl 0 rfl) ?_
    refine lv_aload_n hx hb dX4_resistanceAt_19 rfl (lv_at hl 1 rfl) ?_
    refine m_get S hK hP 10 (by decide) q1610 rfl dX4_resistanceAt_20 ?_
    refine lv_iconst (v := 1) hx hb dX4_resistanceAt_23 (by decide) ?_
    refine lv_isub hx hb dX4_resistanceAt_24 ?_
    refine lv_icmp_ne (tgt := 38) hx hb dX4_resistanceAt_25 (by decide) (fun c_5 => ?_) (fun c_5 => ?_)
    · replace hf := it_f hf c_5
      clear c_5
      refine lv_aload_n hx hb dX4_resistanceAt_38 rfl (lv_at hl 1 rfl) ?_
      refine lv_iload_n hx hb dX4_resistanceAt_39 rfl (lv_at hl 0 rfl) ?_
      refine lv_iload_n hx hb dX4_resistanceAt_40 rfl (lv_at hl 2 rfl) ?_
      refine lv_aload_n hx hb dX4_resistanceAt_41 rfl (lv_at hl 1 rfl) ?_
      refine m_get S hK hP 12 (by decide) q1612 rfl dX4_resistanceAt_42 ?_
      refine lv_iload_n hx hb dX4_resistanceAt_45 rfl (lv_at hl 0 rfl) ?_
      obtain ⟨g_6, hf⟩ := ga_some hf
      refine m_ild S hK hP 12 4 rfl g_6 dX4_resistanceAt_46 ?_
      clear g_6
      refine lv_i2l (v := (μ_1.2.2 12 r_3.toNatClampNeg).toInt64) hx hb dX4_resistanceAt_47 rfl ?_
      refine lv_aload_n hx hb dX4_resistanceAt_48 rfl (lv_at hl 1 rfl) ?_
      refine m_get S hK hP 12 (by decide) q1612 rfl dX4_resistanceAt_49 ?_
      refine lv_iload_n hx hb dX4_resistanceAt_52 rfl (lv_at hl 0 rfl) ?_
      refine lv_iconst (v := 1) hx hb dX4_resistanceAt_53 (by decide) ?_
      refine lv_iadd hx hb dX4_resistanceAt_54 ?_
      obtain ⟨g_7, hf⟩ := ga_some hf
      refine m_ild S hK hP 12 4 rfl g_7 dX4_resistanceAt_55 ?_
      clear g_7
      refine lv_i2l (v := (μ_1.2.2 12 (r_3 + (1 : Int32)).toNatClampNeg).toInt64) hx hb dX4_resistanceAt_56 rfl ?_
      obtain ⟨r_10, μ_8, h_9, hf⟩ := b2_some hf
      refine cj_call S hK hP hD hZ hS hA (tX4_between l D d z o a K r_3 p0 ((μ_1.2.2 12 r_3.toNatClampNeg).toInt64) ((μ_1.2.2 12 (r_3 + (1 : Int32)).toNatClampNeg).toInt64) μ_1 _ _ h_9) (cwV 4 hts (lw_V q1883 q1885 qs69 q101 q1886) rfl rfl rfl (by decide +kernel) ⟨Nat.le_of_ble_eq_true rfl, Nat.le_of_ble_eq_true rfl⟩) (ci := 0) (q0 := 0) rfl rfl rfl hl.1 rfl (Nat.le_of_ble_eq_true rfl) ⟨Nat.le_of_ble_eq_true rfl, Nat.le_of_ble_eq_true rfl⟩ dX4_resistanceAt_57 ?_
      clear hP hD hS
      intro H locs hP hD hS
      clear h_9
      exact hret _ _ _ _ _ _ hf dX4_resistanceAt_60 hP hD hS
    · replace hf := it_t hf c_5
      clear c_5
      refine lv_aload_n hx hb dX4_resistanceAt_28 rfl (lv_at hl 1 rfl) ?_
      refine m_get S hK hP 12 (by decide) q1612 rfl dX4_resistanceAt_29 ?_
      refine lv_iload_n hx hb dX4_resistanceAt_32 rfl (lv_at hl 0 rfl) ?_
      obtain ⟨g_11, hf⟩ := ga_some hf
      refine m_ild S hK hP 12 4 rfl g_11 dX4_resistanceAt_33 ?_
      clear g_11
      refine lv_i2l (v := (μ_1.2.2 12 r_3.toNatClampNeg).toInt64) hx hb dX4_resistanceAt_34 rfl ?_
      refine lv_goto (tgt := 60) hx hb dX4_resistanceAt_35 (by decide) ?_
      exact hret _ _ _ _ _ _ hf dX4_resistanceAt_60 hP hD hS
  · replace hf := it_f hf c_4
    clear c_4
    refine lv_aload_n hx hb dX4_resistanceAt_10 rfl (lv_at hl 1 rfl) ?_
    refine m_get S hK hP 12 (by decide) q1612 rfl dX4_resistanceAt_11 ?_
    refine lv_iconst (v := 0) hx hb dX4_resistanceAt_14 (by decide) ?_
    obtain ⟨g_12, hf⟩ := ga_some hf
    refine m_ild S hK hP 12 4 rfl g_12 dX4_resistanceAt_15 ?_
    clear g_12
    refine lv_i2l (v := (μ_1.2.2 12 (0 : Int32).toNatClampNeg).toInt64) hx hb dX4_resistanceAt_16 rfl ?_
    exact hret _ _ _ _ _ _ hf dX4_resistanceAt_17 hP hD hS
def fX4_reactanceAt (K : Nat) (p0 : Int32) (μ : MS) : Option (Int64 × MS) :=
  b2 (fX4_pointBelow K p0 μ) fun r_3 μ_1 =>
  if 0 ≤ r_3 then
    if r_3 = ((μ_1.1 10) - (1 : Int32)) then
      ga (ix r_3 16) <|
      some ((μ_1.2.2 13 r_3.toNatClampNeg).toInt64, μ_1)
    else
      ga (ix r_3 16) <|
      ga (ix (r_3 + (1 : Int32)) 16) <|
      b2 (fX4_between K r_3 p0 ((μ_1.2.2 13 r_3.toNatClampNeg).toInt64) ((μ_1.2.2 13 (r_3 + (1 : Int32)).toNatClampNeg).toInt64) μ_1) fun r_10 μ_8 =>
      some (r_10, μ_8)
  else
    ga (ix (0 : Int32) 16) <|
    some ((μ_1.2.2 13 (0 : Int32).toNatClampNeg).toInt64, μ_1)
set_option maxHeartbeats 4000000 in
set_option maxRecDepth 100000 in
theorem tX4_reactanceAt (l : Launch) (D : va_G) (d : Nat → ClassId) (z : ZT) (o : Nat) (a : Nat → Nat) (K : Nat) (p0 : Int32) (μ : MS) (r : Int64) (μ' : MS) (hf : fX4_reactanceAt K p0 μ = some (r, μ')) : CJ l yX4_reactanceAt (ws_ yX4_reactanceAt cX4_reactanceAt 3 (Option.some Jvm.ClassFile.FieldType.long)) (rmc 1 0 0 26) D d z [.ref o, .int p0] (MP d o a μ) r (MP d o a μ') := by
  refine mJ_of rfl (by decide) (Nat.le_of_ble_eq_true rfl) ?_
  intro p e s m args below meth c A Q ls S hK hP hD hZ hS hA hl hret
  have hx := S.1
  have hb := S.2.1
  have hts := S.2.2.2.2
  have hl : lv_has ls 3 [(0, .ref o), (1, .int p0)] := hl
  unfold fX4_reactanceAt at hf
  refine lv_aload_n hx hb dX4_reactanceAt_0 rfl (lv_at hl 0 rfl) ?_
  refine lv_iload_n hx hb dX4_reactanceAt_1 rfl (lv_at hl 1 rfl) ?_
  obtain ⟨r_3, μ_1, h_2, hf⟩ := b2_some hf
  refine ci_call S hK hP hD hZ hS hA (tX4_pointBelow l D d z o a K p0 μ _ _ h_2) (cwV 1 hts (lw_V q1879 q1881 qs68 q101 q1882) rfl rfl rfl (by decide +kernel) ⟨Nat.le_of_ble_eq_true rfl, Nat.le_of_ble_eq_true rfl⟩) (ci := 0) (q0 := 0) rfl rfl rfl hl.1 rfl (Nat.le_of_ble_eq_true rfl) ⟨Nat.le_of_ble_eq_true rfl, Nat.le_of_ble_eq_true rfl⟩ dX4_reactanceAt_2 ?_
  clear hP hD hS
  intro H locs hP hD hS
  clear h_2
  refine lv_istore_n (lv' := [(2, .int r_3), (0, .ref o), (1, .int p0)]) hx hb dX4_reactanceAt_5 rfl hl (by decide) rfl (fun ls hl => ?_)
  refine lv_iload_n hx hb dX4_reactanceAt_6 rfl (lv_at hl 0 rfl) ?_
  refine lv_if_ge (tgt := 18) hx hb dX4_reactanceAt_7 (by decide) (fun c_4 => ?_) (fun c_4 => ?_)
  · replace hf := it_t hf c_4
    clear c_4
    refine lv_iload_n hx hb dX4_reactanceAt_18 rfl (lv_at hl 0 rfl) ?_
    refine lv_aload_n hx hb dX4_reactanceAt_19 rfl (lv_at hl 1 rfl) ?_
    refine m_get S hK hP 10 (by decide) q1610 rfl dX4_reactanceAt_20 ?_
    refine lv_iconst (v := 1) hx hb dX4_reactanceAt_23 (by decide) ?_
    refine lv_isub hx hb dX4_reactanceAt_24 ?_
    refine lv_icmp_ne (tgt := 38) hx hb dX4_reactanceAt_25 (by decide) (fun c_5 => ?_) (fun c_5 => ?_)
    · replace hf := it_f hf c_5
      clear c_5
      refine lv_aload_n hx hb dX4_reactanceAt_38 rfl (lv_at hl 1 rfl) ?_
      refine lv_iload_n hx hb dX4_reactanceAt_39 rfl (lv_at hl 0 rfl) ?_
      refine lv_iload_n hx hb dX4_reactanceAt_40 rfl (lv_at hl 2 rfl) ?_
      refine lv_aload_n hx hb dX4_reactanceAt_41 rfl (lv_at hl 1 rfl) ?_
      refine m_get S hK hP 13 (by decide) q1613 rfl dX4_reactanceAt_42 ?_
      refine lv_iload_n hx hb dX4_reactanceAt_45 rfl (lv_at hl 0 rfl) ?_
      obtain ⟨g_6, hf⟩ := ga_some hf
      refine m_ild S hK hP 13 5 rfl g_6 dX4_reactanceAt_46 ?_
      clear g_6
      refine lv_i2l (v := (μ_1.2.2 13 r_3.toNatClampNeg).toInt64) hx hb dX4_reactanceAt_47 rfl ?_
      refine lv_aload_n hx hb dX4_reactanceAt_48 rfl (lv_at hl 1 rfl) ?_
      refine m_get S hK hP 13 (by decide) q1613 rfl dX4_reactanceAt_49 ?_
      refine lv_iload_n hx hb dX4_reactanceAt_52 rfl (lv_at hl 0 rfl) ?_
      refine lv_iconst (v := 1) hx hb dX4_reactanceAt_53 (by decide) ?_
      refine lv_iadd hx hb dX4_reactanceAt_54 ?_
      obtain ⟨g_7, hf⟩ := ga_some hf
      refine m_ild S hK hP 13 5 rfl g_7 dX4_reactanceAt_55 ?_
      clear g_7
      refine lv_i2l (v := (μ_1.2.2 13 (r_3 + (1 : Int32)).toNatClampNeg).toInt64) hx hb dX4_reactanceAt_56 rfl ?_
      obtain ⟨r_10, μ_8, h_9, hf⟩ := b2_some hf
      refine cj_call S hK hP hD hZ hS hA (tX4_between l D d z o a K r_3 p0 ((μ_1.2.2 13 r_3.toNatClampNeg).toInt64) ((μ_1.2.2 13 (r_3 + (1 : Int32)).toNatClampNeg).toInt64) μ_1 _ _ h_9) (cwV 4 hts (lw_V q1883 q1885 qs69 q101 q1886) rfl rfl rfl (by decide +kernel) ⟨Nat.le_of_ble_eq_true rfl, Nat.le_of_ble_eq_true rfl⟩) (ci := 0) (q0 := 0) rfl rfl rfl hl.1 rfl (Nat.le_of_ble_eq_true rfl) ⟨Nat.le_of_ble_eq_true rfl, Nat.le_of_ble_eq_true rfl⟩ dX4_reactanceAt_57 ?_
      clear hP hD hS
      intro H locs hP hD hS
      clear h_9
      exact hret _ _ _ _ _ _ hf dX4_reactanceAt_60 hP hD hS
    · replace hf := it_t hf c_5
      clear c_5
      refine lv_aload_n hx hb dX4_reactanceAt_28 rfl (lv_at hl 1 rfl) ?_
      refine m_get S hK hP 13 (by decide) q1613 rfl dX4_reactanceAt_29 ?_
      refine lv_iload_n hx hb dX4_reactanceAt_32 rfl (lv_at hl 0 rfl) ?_
      obtain ⟨g_11, hf⟩ := ga_some hf
      refine m_ild S hK hP 13 5 rfl g_11 dX4_reactanceAt_33 ?_
      clear g_11
      refine lv_i2l (v := (μ_1.2.2 13 r_3.toNatClampNeg).toInt64) hx hb dX4_reactanceAt_34 rfl ?_
      refine lv_goto (tgt := 60) hx hb dX4_reactanceAt_35 (by decide) ?_
      exact hret _ _ _ _ _ _ hf dX4_reactanceAt_60 hP hD hS
  · replace hf := it_f hf c_4
    clear c_4
    refine lv_aload_n hx hb dX4_reactanceAt_10 rfl (lv_at hl 1 rfl) ?_
    refine m_get S hK hP 13 (by decide) q1613 rfl dX4_reactanceAt_11 ?_
    refine lv_iconst (v := 0) hx hb dX4_reactanceAt_14 (by decide) ?_
    obtain ⟨g_12, hf⟩ := ga_some hf
    refine m_ild S hK hP 13 5 rfl g_12 dX4_reactanceAt_15 ?_
    clear g_12
    refine lv_i2l (v := (μ_1.2.2 13 (0 : Int32).toNatClampNeg).toInt64) hx hb dX4_reactanceAt_16 rfl ?_
    exact hret _ _ _ _ _ _ hf dX4_reactanceAt_17 hP hD hS
def fX4_antennaResistance (K : Nat) (p0 : Int32) (μ : MS) : Option (Int64 × MS) :=
  if (μ.1 3) = 0 then
    some ((-1 : Int64), μ)
  else
    b1 (fX4_isFrequency K p0) fun r_2 =>
    if r_2 = true then
      b2 (fX4_resistanceAt K p0 μ) fun r_7 μ_5 =>
      some (r_7, μ_5)
    else
      some ((-1 : Int64), μ)
set_option maxHeartbeats 4000000 in
set_option maxRecDepth 100000 in
theorem tX4_antennaResistance (l : Launch) (D : va_G) (d : Nat → ClassId) (z : ZT) (o : Nat) (a : Nat → Nat) (K : Nat) (p0 : Int32) (μ : MS) (r : Int64) (μ' : MS) (hf : fX4_antennaResistance K p0 μ = some (r, μ')) : CJ l yX4_antennaResistance (ws_ yX4_antennaResistance cX4_antennaResistance 2 (Option.some Jvm.ClassFile.FieldType.long)) (rmc 2 0 0 48) D d z [.ref o, .int p0] (MP d o a μ) r (MP d o a μ') := by
  refine mJ_of rfl (by decide) (Nat.le_of_ble_eq_true rfl) ?_
  intro p e s m args below meth c A Q ls S hK hP hD hZ hS hA hl hret
  have hx := S.1
  have hb := S.2.1
  have hts := S.2.2.2.2
  have hl : lv_has ls 2 [(0, .ref o), (1, .int p0)] := hl
  unfold fX4_antennaResistance at hf
  refine lv_aload_n hx hb dX4_antennaResistance_0 rfl (lv_at hl 0 rfl) ?_
  refine m_get S hK hP 3 (by decide) q1603 rfl dX4_antennaResistance_1 ?_
  refine lv_if_eq (tgt := 22) hx hb dX4_antennaResistance_4 (by decide) (fun c_1 => ?_) (fun c_1 => ?_)
  · replace hf := it_t hf c_1
    clear c_1
    refine lv_ldc2 hx hb S.2.2.2.1 (hts _ q1887) dX4_antennaResistance_22 ?_
    exact hret _ _ _ _ _ _ hf dX4_antennaResistance_25 hP hD hS
  · replace hf := it_f hf c_1
    clear c_1
    refine lv_iload_n hx hb dX4_antennaResistance_7 rfl (lv_at hl 1 rfl) ?_
    obtain ⟨r_2, h_3, hf⟩ := b1_some hf
    refine si_call S (tX4_isFrequency l K p0 _ h_3) (va_cwS 1 hts (lw_S q1870 q1871 q101 q1872) rfl rfl rfl (by decide +kernel) ⟨Nat.le_of_ble_eq_true rfl, Nat.le_of_ble_eq_true rfl⟩) rfl hl.1 rfl (Nat.le_of_ble_eq_true rfl) ⟨Nat.le_of_ble_eq_true rfl, Nat.le_of_ble_eq_true rfl⟩ dX4_antennaResistance_8 ?_
    clear h_3
    refine lv_if_eq (tgt := 22) hx hb dX4_antennaResistance_11 (by decide) (fun c_4 => ?_) (fun c_4 => ?_)
    · replace hf := it_f hf (bi_e0 c_4)
      clear c_4
      refine lv_ldc2 hx hb S.2.2.2.1 (hts _ q1887) dX4_antennaResistance_22 ?_
      exact hret _ _ _ _ _ _ hf dX4_antennaResistance_25 hP hD hS
    · replace hf := it_t hf (bi_n0 c_4)
      clear c_4
      refine lv_aload_n hx hb dX4_antennaResistance_14 rfl (lv_at hl 0 rfl) ?_
      refine lv_iload_n hx hb dX4_antennaResistance_15 rfl (lv_at hl 1 rfl) ?_
      obtain ⟨r_7, μ_5, h_6, hf⟩ := b2_some hf
      refine cj_call S hK hP hD hZ hS hA (tX4_resistanceAt l D d z o a K p0 μ _ _ h_6) (cwV 1 hts (lw_V q1875 q1877 qs67 q101 q1878) rfl rfl rfl (by decide +kernel) ⟨Nat.le_of_ble_eq_true rfl, Nat.le_of_ble_eq_true rfl⟩) (ci := 0) (q0 := 0) rfl rfl rfl hl.1 rfl (Nat.le_of_ble_eq_true rfl) ⟨Nat.le_of_ble_eq_true rfl, Nat.le_of_ble_eq_true rfl⟩ dX4_antennaResistance_16 ?_
      clear hP hD hS
      intro H locs hP hD hS
      clear h_6
      refine lv_goto (tgt := 25) hx hb dX4_antennaResistance_19 (by decide) ?_
      exact hret _ _ _ _ _ _ hf dX4_antennaResistance_25 hP hD hS
def fX4_antennaReactance (K : Nat) (p0 : Int32) (μ : MS) : Option (Int64 × MS) :=
  if (μ.1 3) = 0 then
    some ((-9223372036854775808 : Int64), μ)
  else
    b1 (fX4_isFrequency K p0) fun r_2 =>
    if r_2 = true then
      b2 (fX4_reactanceAt K p0 μ) fun r_7 μ_5 =>
      some (r_7, μ_5)
    else
      some ((-9223372036854775808 : Int64), μ)
set_option maxHeartbeats 4000000 in
set_option maxRecDepth 100000 in
theorem tX4_antennaReactance (l : Launch) (D : va_G) (d : Nat → ClassId) (z : ZT) (o : Nat) (a : Nat → Nat) (K : Nat) (p0 : Int32) (μ : MS) (r : Int64) (μ' : MS) (hf : fX4_antennaReactance K p0 μ = some (r, μ')) : CJ l yX4_antennaReactance (ws_ yX4_antennaReactance cX4_antennaReactance 2 (Option.some Jvm.ClassFile.FieldType.long)) (rmc 2 0 0 48) D d z [.ref o, .int p0] (MP d o a μ) r (MP d o a μ') := by
  refine mJ_of rfl (by decide) (Nat.le_of_ble_eq_true rfl) ?_
  intro p e s m args below meth c A Q ls S hK hP hD hZ hS hA hl hret
  have hx := S.1
  have hb := S.2.1
  have hts := S.2.2.2.2
  have hl : lv_has ls 2 [(0, .ref o), (1, .int p0)] := hl
  unfold fX4_antennaReactance at hf
  refine lv_aload_n hx hb dX4_antennaReactance_0 rfl (lv_at hl 0 rfl) ?_
  refine m_get S hK hP 3 (by decide) q1603 rfl dX4_antennaReactance_1 ?_
  refine lv_if_eq (tgt := 22) hx hb dX4_antennaReactance_4 (by decide) (fun c_1 => ?_) (fun c_1 => ?_)
  · replace hf := it_t hf c_1
    clear c_1
    refine lv_ldc2 hx hb S.2.2.2.1 (hts _ q1896) dX4_antennaReactance_22 ?_
    exact hret _ _ _ _ _ _ hf dX4_antennaReactance_25 hP hD hS
  · replace hf := it_f hf c_1
    clear c_1
    refine lv_iload_n hx hb dX4_antennaReactance_7 rfl (lv_at hl 1 rfl) ?_
    obtain ⟨r_2, h_3, hf⟩ := b1_some hf
    refine si_call S (tX4_isFrequency l K p0 _ h_3) (va_cwS 1 hts (lw_S q1870 q1871 q101 q1872) rfl rfl rfl (by decide +kernel) ⟨Nat.le_of_ble_eq_true rfl, Nat.le_of_ble_eq_true rfl⟩) rfl hl.1 rfl (Nat.le_of_ble_eq_true rfl) ⟨Nat.le_of_ble_eq_true rfl, Nat.le_of_ble_eq_true rfl⟩ dX4_antennaReactance_8 ?_
    clear h_3
    refine lv_if_eq (tgt := 22) hx hb dX4_antennaReactance_11 (by decide) (fun c_4 => ?_) (fun c_4 => ?_)
    · replace hf := it_f hf (bi_e0 c_4)
      clear c_4
      refine lv_ldc2 hx hb S.2.2.2.1 (hts _ q1896) dX4_antennaReactance_22 ?_
      exact hret _ _ _ _ _ _ hf dX4_antennaReactance_25 hP hD hS
    · replace hf := it_t hf (bi_n0 c_4)
      clear c_4
      refine lv_aload_n hx hb dX4_antennaReactance_14 rfl (lv_at hl 0 rfl) ?_
      refine lv_iload_n hx hb dX4_antennaReactance_15 rfl (lv_at hl 1 rfl) ?_
      obtain ⟨r_7, μ_5, h_6, hf⟩ := b2_some hf
      refine cj_call S hK hP hD hZ hS hA (tX4_reactanceAt l D d z o a K p0 μ _ _ h_6) (cwV 1 hts (lw_V q1892 q1894 qs70 q101 q1895) rfl rfl rfl (by decide +kernel) ⟨Nat.le_of_ble_eq_true rfl, Nat.le_of_ble_eq_true rfl⟩) (ci := 0) (q0 := 0) rfl rfl rfl hl.1 rfl (Nat.le_of_ble_eq_true rfl) ⟨Nat.le_of_ble_eq_true rfl, Nat.le_of_ble_eq_true rfl⟩ dX4_antennaReactance_16 ?_
      clear hP hD hS
      intro H locs hP hD hS
      clear h_6
      refine lv_goto (tgt := 25) hx hb dX4_antennaReactance_19 (by decide) ?_
      exact hret _ _ _ _ _ _ hf dX4_antennaReactance_25 hP hD hS
def fX4_isResonance_L48 (K : Nat) (x48_2 : Int64) (x48_4 : Int64) (μ48 : MS) : Option (Bool × MS) :=
  if (0 : Int64) ≤ x48_2 then
    some (false, μ48)
  else
    if x48_4 ≤ (0 : Int64) then
      some (false, μ48)
    else
      some (true, μ48)
def fX4_isResonance (K : Nat) (p0 : Int32) (μ : MS) : Option (Bool × MS) :=
  b2 (fX4_reactanceAt K p0 μ) fun r_3 μ_1 =>
  if r_3 = (0 : Int64) then
    some (true, μ_1)
  else
    ga (ix (0 : Int32) 16) <|
    if p0 = (μ_1.2.2 11 (0 : Int32).toNatClampNeg) then
      some (false, μ_1)
    else
      b2 (fX4_reactanceAt K (p0 - (1 : Int32)) μ_1) fun r_9 μ_7 =>
      if r_3 ≤ (0 : Int64) then
        fX4_isResonance_L48 K r_3 r_9 μ_7
      else
        if r_9 < (0 : Int64) then
          some (true, μ_7)
        else
          fX4_isResonance_L48 K r_3 r_9 μ_7
set_option maxHeartbeats 4000000 in
set_option maxRecDepth 100000 in
theorem tX4_isResonance (l : Launch) (D : va_G) (d : Nat → ClassId) (z : ZT) (o : Nat) (a : Nat → Nat) (K : Nat) (p0 : Int32) (μ : MS) (r : Bool) (μ' : MS) (hf : fX4_isResonance K p0 μ = some (r, μ')) : CI l yX4_isResonance (ws_ yX4_isResonance cX4_isResonance 6 (Option.some Jvm.ClassFile.FieldType.boolean)) (rmc 2 0 0 48) D d z [.ref o, .int p0] (MP d o a μ) (bi r) (MP d o a μ') := by
  refine mZ_of rfl (by decide) (Nat.le_of_ble_eq_true rfl) ?_
  intro p e s m args below meth c A Q ls S hK hP hD hZ hS hA hl hret
  have hx := S.1
  have hb := S.2.1
  have hts := S.2.2.2.2
  have hl : lv_has ls 6 [(0, .ref o), (1, .int p0)] := hl
  have L48 : ∀ (x48_2 : Int64) (x48_4 : Int64) (μ48 : MS) (H : Heap) (locs : List Loc) (ls : Array Slot), fX4_isResonance_L48 K x48_2 x48_4 μ48 = some (r, μ') → va_P D CL (MP d o a μ48) H → va_D A (MP d o a μ48) → va_S A s.heap H locs → lv_has ls 6 [(2, .long x48_2), (4, .long x48_4)] → W p l e (rmc 2 0 0 48) s m args below meth c H locs 0 0 Q (F0 m 48 ls []) := by
    intro x48_2 x48_4 μ48 H locs ls hf hP hD hS hl
    unfold fX4_isResonance_L48 at hf
    refine lv_lload_n hx hb dX4_isResonance_48 rfl (lv_at hl 0 rfl) ?_
    refine lv_lconst (v := 0) hx hb dX4_isResonance_49 (by decide) ?_
    refine g_lcmp_ge (tgt := 65) hx hb dX4_isResonance_50 dX4_isResonance_51 (by decide) (fun c_11 => ?_) (fun c_11 => ?_)
    · replace hf := it_t hf c_11
      clear c_11
      refine lv_iconst (v := 0) hx hb dX4_isResonance_65 (by decide) ?_
      exact hret _ _ _ _ _ _ hf dX4_isResonance_66 hP hD hS
    · replace hf := it_f hf c_11
      clear c_11
      refine lv_lload hx hb dX4_isResonance_54 (lv_at hl 1 rfl) ?_
      refine lv_lconst (v := 0) hx hb dX4_isResonance_56 (by decide) ?_
      refine g_lcmp_le (tgt := 65) hx hb dX4_isResonance_57 dX4_isResonance_58 (by decide) (fun c_12 => ?_) (fun c_12 => ?_)
      · replace hf := it_t hf c_12
        clear c_12
        refine lv_iconst (v := 0) hx hb dX4_isResonance_65 (by decide) ?_
        exact hret _ _ _ _ _ _ hf dX4_isResonance_66 hP hD hS
      · replace hf := it_f hf c_12
        clear c_12
        refine lv_iconst (v := 1) hx hb dX4_isResonance_61 (by decide) ?_
        refine lv_goto (tgt := 66) hx hb dX4_isResonance_62 (by decide) ?_
        exact hret _ _ _ _ _ _ hf dX4_isResonance_66 hP hD hS
  unfold fX4_isResonance at hf
  refine lv_aload_n hx hb dX4_isResonance_0 rfl (lv_at hl 0 rfl) ?_
  refine lv_iload_n hx hb dX4_isResonance_1 rfl (lv_at hl 1 rfl) ?_
  obtain ⟨r_3, μ_1, h_2, hf⟩ := b2_some hf
  refine cj_call S hK hP hD hZ hS hA (tX4_reactanceAt l D d z o a K p0 μ _ _ h_2) (cwV 1 hts (lw_V q1892 q1894 qs70 q101 q1895) rfl rfl rfl (by decide +kernel) ⟨Nat.le_of_ble_eq_true rfl, Nat.le_of_ble_eq_true rfl⟩) (ci := 0) (q0 := 0) rfl rfl rfl hl.1 rfl (Nat.le_of_ble_eq_true rfl) ⟨Nat.le_of_ble_eq_true rfl, Nat.le_of_ble_eq_true rfl⟩ dX4_isResonance_2 ?_
  clear hP hD hS
  intro H locs hP hD hS
  clear h_2
  refine lv_lstore_n (lv' := [(2, .long r_3), (0, .ref o), (1, .int p0)]) hx hb dX4_isResonance_5 rfl hl (by decide) rfl (fun ls hl => ?_)
  refine lv_lload_n hx hb dX4_isResonance_6 rfl (lv_at hl 0 rfl) ?_
  refine lv_lconst (v := 0) hx hb dX4_isResonance_7 (by decide) ?_
  refine g_lcmp_ne (tgt := 14) hx hb dX4_isResonance_8 dX4_isResonance_9 (by decide) (fun c_4 => ?_) (fun c_4 => ?_)
  · replace hf := it_f hf c_4
    clear c_4
    refine lv_iload_n hx hb dX4_isResonance_14 rfl (lv_at hl 2 rfl) ?_
    refine lv_aload_n hx hb dX4_isResonance_15 rfl (lv_at hl 1 rfl) ?_
    refine m_get S hK hP 11 (by decide) q1611 rfl dX4_isResonance_16 ?_
    refine lv_iconst (v := 0) hx hb dX4_isResonance_19 (by decide) ?_
    obtain ⟨g_5, hf⟩ := ga_some hf
    refine m_ild S hK hP 11 3 rfl g_5 dX4_isResonance_20 ?_
    clear g_5
    refine lv_icmp_ne (tgt := 26) hx hb dX4_isResonance_21 (by decide) (fun c_6 => ?_) (fun c_6 => ?_)
    · replace hf := it_f hf c_6
      clear c_6
      refine lv_aload_n hx hb dX4_isResonance_26 rfl (lv_at hl 1 rfl) ?_
      refine lv_iload_n hx hb dX4_isResonance_27 rfl (lv_at hl 2 rfl) ?_
      refine lv_iconst (v := 1) hx hb dX4_isResonance_28 (by decide) ?_
      refine lv_isub hx hb dX4_isResonance_29 ?_
      obtain ⟨r_9, μ_7, h_8, hf⟩ := b2_some hf
      refine cj_call S hK hP hD hZ hS hA (tX4_reactanceAt l D d z o a K (p0 - (1 : Int32)) μ_1 _ _ h_8) (cwV 1 hts (lw_V q1892 q1894 qs70 q101 q1895) rfl rfl rfl (by decide +kernel) ⟨Nat.le_of_ble_eq_true rfl, Nat.le_of_ble_eq_true rfl⟩) (ci := 0) (q0 := 0) rfl rfl rfl hl.1 rfl (Nat.le_of_ble_eq_true rfl) ⟨Nat.le_of_ble_eq_true rfl, Nat.le_of_ble_eq_true rfl⟩ dX4_isResonance_30 ?_
      clear hP hD hS
      intro H locs hP hD hS
      clear h_8
      refine lv_lstore (lv' := [(4, .long r_9), (2, .long r_3), (0, .ref o), (1, .int p0)]) hx hb dX4_isResonance_33 hl (by decide) rfl (fun ls hl => ?_)
      refine lv_lload_n hx hb dX4_isResonance_35 rfl (lv_at hl 1 rfl) ?_
      refine lv_lconst (v := 0) hx hb dX4_isResonance_36 (by decide) ?_
      refine g_lcmp_le (tgt := 48) hx hb dX4_isResonance_37 dX4_isResonance_38 (by decide) (fun c_10 => ?_) (fun c_10 => ?_)
      · replace hf := it_t hf c_10
        clear c_10
        exact L48 r_3 r_9 μ_7 _ _ _ hf hP hD hS (lv_sub hl [1, 0] rfl)
      · replace hf := it_f hf c_10
        clear c_10
        refine lv_lload hx hb dX4_isResonance_41 (lv_at hl 0 rfl) ?_
        refine lv_lconst (v := 0) hx hb dX4_isResonance_43 (by decide) ?_
        refine g_lcmp_lt (tgt := 61) hx hb dX4_isResonance_44 dX4_isResonance_45 (by decide) (fun c_13 => ?_) (fun c_13 => ?_)
        · replace hf := it_t hf c_13
          clear c_13
          refine lv_iconst (v := 1) hx hb dX4_isResonance_61 (by decide) ?_
          refine lv_goto (tgt := 66) hx hb dX4_isResonance_62 (by decide) ?_
          exact hret _ _ _ _ _ _ hf dX4_isResonance_66 hP hD hS
        · replace hf := it_f hf c_13
          clear c_13
          exact L48 r_3 r_9 μ_7 _ _ _ hf hP hD hS (lv_sub hl [1, 0] rfl)
    · replace hf := it_t hf c_6
      clear c_6
      refine lv_iconst (v := 0) hx hb dX4_isResonance_24 (by decide) ?_
      exact hret _ _ _ _ _ _ hf dX4_isResonance_25 hP hD hS
  · replace hf := it_t hf c_4
    clear c_4
    refine lv_iconst (v := 1) hx hb dX4_isResonance_12 (by decide) ?_
    exact hret _ _ _ _ _ _ hf dX4_isResonance_13 hP hD hS
def fX4_resonance_L30 (K : Nat) : Nat → Int32 → Int32 → MS → Option (Int32 × MS)
  | 0, _, _, _ => none
  | n + 1, x30_2, x30_3, μ30 =>
    ga (ix ((μ30.1 10) - (1 : Int32)) 16) <|
    if (μ30.2.2 11 ((μ30.1 10) - (1 : Int32)).toNatClampNeg) < x30_3 then
      some ((-2 : Int32), μ30)
    else
      b2 (fX4_isResonance K x30_3 μ30) fun r_11 μ_9 =>
      if r_11 = true then
        if x30_2 = 0 then
          some (x30_3, μ_9)
        else
          fX4_resonance_L30 K n (x30_2 + (-1 : Int32)) (x30_3 + (1 : Int32)) μ_9
      else
        fX4_resonance_L30 K n x30_2 (x30_3 + (1 : Int32)) μ_9
def fX4_resonance (K : Nat) (p0 : Int32) (μ : MS) : Option (Int32 × MS) :=
  if (μ.1 3) = 0 then
    some ((-1 : Int32), μ)
  else
    b1 (fX4_isIn K p0.toInt64 (0 : Int64) (100 : Int64)) fun r_2 =>
    if r_2 = true then
      ga (ix (0 : Int32) 16) <|
      nm (μ.2.2 11 (0 : Int32).toNatClampNeg) fun v_6 =>
      fX4_resonance_L30 K K p0 v_6 μ
    else
      some ((-1 : Int32), μ)
set_option maxHeartbeats 4000000 in
set_option maxRecDepth 100000 in
theorem tX4_resonance (l : Launch) (D : va_G) (d : Nat → ClassId) (z : ZT) (o : Nat) (a : Nat → Nat) (K : Nat) (p0 : Int32) (μ : MS) (r : Int32) (μ' : MS) (hf : fX4_resonance K p0 μ = some (r, μ')) : CI l yX4_resonance (ws_ yX4_resonance cX4_resonance 4 (Option.some Jvm.ClassFile.FieldType.int)) (rmc 3 0 0 73) D d z [.ref o, .int p0] (MP d o a μ) r (MP d o a μ') := by
  refine mI_of rfl (by decide) (Nat.le_of_ble_eq_true rfl) ?_
  intro p e s m args below meth c A Q ls S hK hP hD hZ hS hA hl hret
  have hx := S.1
  have hb := S.2.1
  have hts := S.2.2.2.2
  have hl : lv_has ls 4 [(0, .ref o), (1, .int p0)] := hl
  have L30 : ∀ (n : Nat) (x30_2 : Int32) (x30_3 : Int32) (μ30 : MS) (H : Heap) (locs : List Loc) (ls : Array Slot), fX4_resonance_L30 K n x30_2 x30_3 μ30 = some (r, μ') → va_P D CL (MP d o a μ30) H → va_D A (MP d o a μ30) → va_S A s.heap H locs → lv_has ls 4 [(0, .ref o), (2, .int x30_2), (3, .int x30_3)] → W p l e (rmc 3 0 0 73) s m args below meth c H locs 0 0 Q (F0 m 30 ls []) := by
    intro n
    induction n with
    | zero =>
      intro x30_2 x30_3 μ30 H locs ls hf hP hD hS hl
      rw [fX4_resonance_L30] at hf
      cases hf
    | succ n ih =>
      intro x30_2 x30_3 μ30 H locs ls hf hP hD hS hl
      rw [fX4_resonance_L30] at hf
      refine lv_iload_n hx hb dX4_resonance_30 rfl (lv_at hl 2 rfl) ?_
      refine lv_aload_n hx hb dX4_resonance_31 rfl (lv_at hl 0 rfl) ?_
      refine m_get S hK hP 11 (by decide) q1611 rfl dX4_resonance_32 ?_
      refine lv_aload_n hx hb dX4_resonance_35 rfl (lv_at hl 0 rfl) ?_
      refine m_get S hK hP 10 (by decide) q1610 rfl dX4_resonance_36 ?_
      refine lv_iconst (v := 1) hx hb dX4_resonance_39 (by decide) ?_
      refine lv_isub hx hb dX4_resonance_40 ?_
      obtain ⟨g_7, hf⟩ := ga_some hf
      refine m_ild S hK hP 11 3 rfl g_7 dX4_resonance_41 ?_
      clear g_7
      refine lv_icmp_gt (tgt := 71) hx hb dX4_resonance_42 (by decide) (fun c_8 => ?_) (fun c_8 => ?_)
      · replace hf := it_t hf c_8
        clear c_8
        refine lv_bipush (v := -2) hx hb dX4_resonance_71 (by decide) ?_
        exact hret _ _ _ _ _ _ hf dX4_resonance_73 hP hD hS
      · replace hf := it_f hf c_8
        clear c_8
        refine lv_aload_n hx hb dX4_resonance_45 rfl (lv_at hl 0 rfl) ?_
        refine lv_iload_n hx hb dX4_resonance_46 rfl (lv_at hl 2 rfl) ?_
        obtain ⟨r_11, μ_9, h_10, hf⟩ := b2_some hf
        refine ci_call S hK hP hD hZ hS hA (tX4_isResonance l D d z o a K x30_3 μ30 _ _ h_10) (cwV 1 hts (lw_V q1902 q1904 qs71 q101 q1905) rfl rfl rfl (by decide +kernel) ⟨Nat.le_of_ble_eq_true rfl, Nat.le_of_ble_eq_true rfl⟩) (ci := 0) (q0 := 0) rfl rfl rfl hl.1 rfl (Nat.le_of_ble_eq_true rfl) ⟨Nat.le_of_ble_eq_true rfl, Nat.le_of_ble_eq_true rfl⟩ dX4_resonance_47 ?_
        clear hP hD hS
        intro H locs hP hD hS
        clear h_10
        refine lv_if_ne (tgt := 56) hx hb dX4_resonance_50 (by decide) (fun c_12 => ?_) (fun c_12 => ?_)
        · replace hf := it_t hf (bi_n0 c_12)
          clear c_12
          refine lv_iload_n hx hb dX4_resonance_56 rfl (lv_at hl 1 rfl) ?_
          refine lv_if_ne (tgt := 62) hx hb dX4_resonance_57 (by decide) (fun c_13 => ?_) (fun c_13 => ?_)
          · replace hf := it_f hf c_13
            clear c_13
            refine lv_iinc (v := x30_2 + (-1 : Int32)) (lv' := [(2, .int (x30_2 + (-1 : Int32))), (0, .ref o), (3, .int x30_3)]) hx hb dX4_resonance_62 hl (k := 1) rfl rfl (by decide) rfl (fun ls hl => ?_)
            refine lv_iinc (v := x30_3 + (1 : Int32)) (lv' := [(3, .int (x30_3 + (1 : Int32))), (2, .int (x30_2 + (-1 : Int32))), (0, .ref o)]) hx hb dX4_resonance_65 hl (k := 2) rfl rfl (by decide) rfl (fun ls hl => ?_)
            refine lv_goto (tgt := 30) hx hb dX4_resonance_68 (by decide) ?_
            exact ih (x30_2 + (-1 : Int32)) (x30_3 + (1 : Int32)) μ_9 _ _ _ hf hP hD hS (lv_sub hl [2, 1, 0] rfl)
          · replace hf := it_t hf c_13
            clear c_13
            refine lv_iload_n hx hb dX4_resonance_60 rfl (lv_at hl 2 rfl) ?_
            exact hret _ _ _ _ _ _ hf dX4_resonance_61 hP hD hS
        · replace hf := it_f hf (bi_e0 c_12)
          clear c_12
          refine lv_goto (tgt := 65) hx hb dX4_resonance_53 (by decide) ?_
          refine lv_iinc (v := x30_3 + (1 : Int32)) (lv' := [(3, .int (x30_3 + (1 : Int32))), (0, .ref o), (2, .int x30_2)]) hx hb dX4_resonance_65 hl (k := 2) rfl rfl (by decide) rfl (fun ls hl => ?_)
          refine lv_goto (tgt := 30) hx hb dX4_resonance_68 (by decide) ?_
          exact ih x30_2 (x30_3 + (1 : Int32)) μ_9 _ _ _ hf hP hD hS (lv_sub hl [1, 2, 0] rfl)
  unfold fX4_resonance at hf
  refine lv_aload_n hx hb dX4_resonance_0 rfl (lv_at hl 0 rfl) ?_
  refine m_get S hK hP 3 (by decide) q1603 rfl dX4_resonance_1 ?_
  refine lv_if_eq (tgt := 19) hx hb dX4_resonance_4 (by decide) (fun c_1 => ?_) (fun c_1 => ?_)
  · replace hf := it_t hf c_1
    clear c_1
    refine lv_iconst (v := -1) hx hb dX4_resonance_19 (by decide) ?_
    exact hret _ _ _ _ _ _ hf dX4_resonance_20 hP hD hS
  · replace hf := it_f hf c_1
    clear c_1
    refine lv_iload_n hx hb dX4_resonance_7 rfl (lv_at hl 1 rfl) ?_
    refine lv_i2l (v := p0.toInt64) hx hb dX4_resonance_8 rfl ?_
    refine lv_lconst (v := 0) hx hb dX4_resonance_9 (by decide) ?_
    refine lv_ldc2 hx hb S.2.2.2.1 (hts _ q1901) dX4_resonance_10 ?_
    obtain ⟨r_2, h_3, hf⟩ := b1_some hf
    refine si_call S (tX4_isIn l K p0.toInt64 (0 : Int64) (100 : Int64) _ h_3) (va_cwS 3 hts (lw_S q1754 q1755 q101 q1756) rfl rfl rfl (by decide +kernel) ⟨Nat.le_of_ble_eq_true rfl, Nat.le_of_ble_eq_true rfl⟩) rfl hl.1 rfl (Nat.le_of_ble_eq_true rfl) ⟨Nat.le_of_ble_eq_true rfl, Nat.le_of_ble_eq_true rfl⟩ dX4_resonance_13 ?_
    clear h_3
    refine lv_if_ne (tgt := 21) hx hb dX4_resonance_16 (by decide) (fun c_4 => ?_) (fun c_4 => ?_)
    · replace hf := it_t hf (bi_n0 c_4)
      clear c_4
      refine lv_iload_n hx hb dX4_resonance_21 rfl (lv_at hl 1 rfl) ?_
      refine lv_istore_n (lv' := [(2, .int p0), (0, .ref o), (1, .int p0)]) hx hb dX4_resonance_22 rfl hl (by decide) rfl (fun ls hl => ?_)
      refine lv_aload_n hx hb dX4_resonance_23 rfl (lv_at hl 1 rfl) ?_
      refine m_get S hK hP 11 (by decide) q1611 rfl dX4_resonance_24 ?_
      refine lv_iconst (v := 0) hx hb dX4_resonance_27 (by decide) ?_
      obtain ⟨g_5, hf⟩ := ga_some hf
      refine m_ild S hK hP 11 3 rfl g_5 dX4_resonance_28 ?_
      clear g_5
      refine lv_topi (fun v_6 e_ => ?_)
      replace hf := nm_some hf v_6 e_
      clear e_
      refine lv_istore_n (lv' := [(3, .int v_6), (2, .int p0), (0, .ref o), (1, .int p0)]) hx hb dX4_resonance_29 rfl hl (by decide) rfl (fun ls hl => ?_)
      exact L30 K p0 v_6 μ _ _ _ hf hP hD hS (lv_sub hl [2, 1, 0] rfl)
    · replace hf := it_f hf (bi_e0 c_4)
      clear c_4
      refine lv_iconst (v := -1) hx hb dX4_resonance_19 (by decide) ?_
      exact hret _ _ _ _ _ _ hf dX4_resonance_20 hP hD hS
def fX4_band_L2 (K : Nat) : Nat → Int32 → Int32 → MS → Option (Int32 × MS)
  | 0, _, _, _ => none
  | n + 1, x2_1, x2_2, μ2 =>
    if (μ2.1 14) ≤ x2_2 then
      some ((-2 : Int32), μ2)
    else
      ga (ix x2_2 8) <|
      ga (ix x2_2 8) <|
      b1 (fX4_isIn K x2_1.toInt64 ((μ2.2.2 15 x2_2.toNatClampNeg).toInt64) ((μ2.2.2 16 x2_2.toNatClampNeg).toInt64)) fun r_4 =>
      if r_4 = true then
        some (x2_2, μ2)
      else
        fX4_band_L2 K n x2_1 (x2_2 + (1 : Int32)) μ2
def fX4_band (K : Nat) (p0 : Int32) (μ : MS) : Option (Int32 × MS) :=
  fX4_band_L2 K K p0 (0 : Int32) μ
set_option maxHeartbeats 4000000 in
set_option maxRecDepth 100000 in
theorem tX4_band (l : Launch) (D : va_G) (d : Nat → ClassId) (z : ZT) (o : Nat) (a : Nat → Nat) (K : Nat) (p0 : Int32) (μ : MS) (r : Int32) (μ' : MS) (hf : fX4_band K p0 μ = some (r, μ')) : CI l yX4_band (ws_ yX4_band cX4_band 3 (Option.some Jvm.ClassFile.FieldType.int)) (rmc 1 0 0 25) D d z [.ref o, .int p0] (MP d o a μ) r (MP d o a μ') := by
  refine mI_of rfl (by decide) (Nat.le_of_ble_eq_true rfl) ?_
  intro p e s m args below meth c A Q ls S hK hP hD hZ hS hA hl hret
  have hx := S.1
  have hb := S.2.1
  have hts := S.2.2.2.2
  have hl : lv_has ls 3 [(0, .ref o), (1, .int p0)] := hl
  have L2 : ∀ (n : Nat) (x2_1 : Int32) (x2_2 : Int32) (μ2 : MS) (H : Heap) (locs : List Loc) (ls : Array Slot), fX4_band_L2 K n x2_1 x2_2 μ2 = some (r, μ') → va_P D CL (MP d o a μ2) H → va_D A (MP d o a μ2) → va_S A s.heap H locs → lv_has ls 3 [(0, .ref o), (1, .int x2_1), (2, .int x2_2)] → W p l e (rmc 1 0 0 25) s m args below meth c H locs 0 0 Q (F0 m 2 ls []) := by
    intro n
    induction n with
    | zero =>
      intro x2_1 x2_2 μ2 H locs ls hf hP hD hS hl
      rw [fX4_band_L2] at hf
      cases hf
    | succ n ih =>
      intro x2_1 x2_2 μ2 H locs ls hf hP hD hS hl
      rw [fX4_band_L2] at hf
      refine lv_iload_n hx hb dX4_band_2 rfl (lv_at hl 2 rfl) ?_
      refine lv_aload_n hx hb dX4_band_3 rfl (lv_at hl 0 rfl) ?_
      refine m_get S hK hP 14 (by decide) q1614 rfl dX4_band_4 ?_
      refine lv_icmp_ge (tgt := 40) hx hb dX4_band_7 (by decide) (fun c_1 => ?_) (fun c_1 => ?_)
      · replace hf := it_t hf c_1
        clear c_1
        refine lv_bipush (v := -2) hx hb dX4_band_40 (by decide) ?_
        exact hret _ _ _ _ _ _ hf dX4_band_42 hP hD hS
      · replace hf := it_f hf c_1
        clear c_1
        refine lv_iload_n hx hb dX4_band_10 rfl (lv_at hl 1 rfl) ?_
        refine lv_i2l (v := x2_1.toInt64) hx hb dX4_band_11 rfl ?_
        refine lv_aload_n hx hb dX4_band_12 rfl (lv_at hl 0 rfl) ?_
        refine m_get S hK hP 15 (by decide) q1615 rfl dX4_band_13 ?_
        refine lv_iload_n hx hb dX4_band_16 rfl (lv_at hl 2 rfl) ?_
        obtain ⟨g_2, hf⟩ := ga_some hf
        refine m_ild S hK hP 15 6 rfl g_2 dX4_band_17 ?_
        clear g_2
        refine lv_i2l (v := (μ2.2.2 15 x2_2.toNatClampNeg).toInt64) hx hb dX4_band_18 rfl ?_
        refine lv_aload_n hx hb dX4_band_19 rfl (lv_at hl 0 rfl) ?_
        refine m_get S hK hP 16 (by decide) q1616 rfl dX4_band_20 ?_
        refine lv_iload_n hx hb dX4_band_23 rfl (lv_at hl 2 rfl) ?_
        obtain ⟨g_3, hf⟩ := ga_some hf
        refine m_ild S hK hP 16 7 rfl g_3 dX4_band_24 ?_
        clear g_3
        refine lv_i2l (v := (μ2.2.2 16 x2_2.toNatClampNeg).toInt64) hx hb dX4_band_25 rfl ?_
        obtain ⟨r_4, h_5, hf⟩ := b1_some hf
        refine si_call S (tX4_isIn l K x2_1.toInt64 ((μ2.2.2 15 x2_2.toNatClampNeg).toInt64) ((μ2.2.2 16 x2_2.toNatClampNeg).toInt64) _ h_5) (va_cwS 3 hts (lw_S q1754 q1755 q101 q1756) rfl rfl rfl (by decide +kernel) ⟨Nat.le_of_ble_eq_true rfl, Nat.le_of_ble_eq_true rfl⟩) rfl hl.1 rfl (Nat.le_of_ble_eq_true rfl) ⟨Nat.le_of_ble_eq_true rfl, Nat.le_of_ble_eq_true rfl⟩ dX4_band_26 ?_
        clear h_5
        refine lv_if_eq (tgt := 34) hx hb dX4_band_29 (by decide) (fun c_6 => ?_) (fun c_6 => ?_)
        · replace hf := it_f hf (bi_e0 c_6)
          clear c_6
          refine lv_iinc (v := x2_2 + (1 : Int32)) (lv' := [(2, .int (x2_2 + (1 : Int32))), (0, .ref o), (1, .int x2_1)]) hx hb dX4_band_34 hl (k := 2) rfl rfl (by decide) rfl (fun ls hl => ?_)
          refine lv_goto (tgt := 2) hx hb dX4_band_37 (by decide) ?_
          exact ih x2_1 (x2_2 + (1 : Int32)) μ2 _ _ _ hf hP hD hS (lv_sub hl [1, 2, 0] rfl)
        · replace hf := it_t hf (bi_n0 c_6)
          clear c_6
          refine lv_iload_n hx hb dX4_band_32 rfl (lv_at hl 2 rfl) ?_
          exact hret _ _ _ _ _ _ hf dX4_band_33 hP hD hS
  unfold fX4_band at hf
  refine lv_iconst (v := 0) hx hb dX4_band_0 (by decide) ?_
  refine lv_istore_n (lv' := [(2, .int (0 : Int32)), (0, .ref o), (1, .int p0)]) hx hb dX4_band_1 rfl hl (by decide) rfl (fun ls hl => ?_)
  exact L2 K p0 (0 : Int32) μ _ _ _ hf hP hD hS (lv_sub hl [1, 2, 0] rfl)
def fX4_bandOf (K : Nat) (p0 : Int32) (μ : MS) : Option (Int32 × MS) :=
  if (μ.1 3) = 0 then
    some ((-1 : Int32), μ)
  else
    b1 (fX4_isFrequency K p0) fun r_2 =>
    if r_2 = true then
      b2 (fX4_band K p0 μ) fun r_7 μ_5 =>
      some (r_7, μ_5)
    else
      some ((-1 : Int32), μ)
set_option maxHeartbeats 4000000 in
set_option maxRecDepth 100000 in
theorem tX4_bandOf (l : Launch) (D : va_G) (d : Nat → ClassId) (z : ZT) (o : Nat) (a : Nat → Nat) (K : Nat) (p0 : Int32) (μ : MS) (r : Int32) (μ' : MS) (hf : fX4_bandOf K p0 μ = some (r, μ')) : CI l yX4_bandOf (ws_ yX4_bandOf cX4_bandOf 2 (Option.some Jvm.ClassFile.FieldType.int)) (rmc 2 0 0 47) D d z [.ref o, .int p0] (MP d o a μ) r (MP d o a μ') := by
  refine mI_of rfl (by decide) (Nat.le_of_ble_eq_true rfl) ?_
  intro p e s m args below meth c A Q ls S hK hP hD hZ hS hA hl hret
  have hx := S.1
  have hb := S.2.1
  have hts := S.2.2.2.2
  have hl : lv_has ls 2 [(0, .ref o), (1, .int p0)] := hl
  unfold fX4_bandOf at hf
  refine lv_aload_n hx hb dX4_bandOf_0 rfl (lv_at hl 0 rfl) ?_
  refine m_get S hK hP 3 (by decide) q1603 rfl dX4_bandOf_1 ?_
  refine lv_if_eq (tgt := 22) hx hb dX4_bandOf_4 (by decide) (fun c_1 => ?_) (fun c_1 => ?_)
  · replace hf := it_t hf c_1
    clear c_1
    refine lv_iconst (v := -1) hx hb dX4_bandOf_22 (by decide) ?_
    exact hret _ _ _ _ _ _ hf dX4_bandOf_23 hP hD hS
  · replace hf := it_f hf c_1
    clear c_1
    refine lv_iload_n hx hb dX4_bandOf_7 rfl (lv_at hl 1 rfl) ?_
    obtain ⟨r_2, h_3, hf⟩ := b1_some hf
    refine si_call S (tX4_isFrequency l K p0 _ h_3) (va_cwS 1 hts (lw_S q1870 q1871 q101 q1872) rfl rfl rfl (by decide +kernel) ⟨Nat.le_of_ble_eq_true rfl, Nat.le_of_ble_eq_true rfl⟩) rfl hl.1 rfl (Nat.le_of_ble_eq_true rfl) ⟨Nat.le_of_ble_eq_true rfl, Nat.le_of_ble_eq_true rfl⟩ dX4_bandOf_8 ?_
    clear h_3
    refine lv_if_eq (tgt := 22) hx hb dX4_bandOf_11 (by decide) (fun c_4 => ?_) (fun c_4 => ?_)
    · replace hf := it_f hf (bi_e0 c_4)
      clear c_4
      refine lv_iconst (v := -1) hx hb dX4_bandOf_22 (by decide) ?_
      exact hret _ _ _ _ _ _ hf dX4_bandOf_23 hP hD hS
    · replace hf := it_t hf (bi_n0 c_4)
      clear c_4
      refine lv_aload_n hx hb dX4_bandOf_14 rfl (lv_at hl 0 rfl) ?_
      refine lv_iload_n hx hb dX4_bandOf_15 rfl (lv_at hl 1 rfl) ?_
      obtain ⟨r_7, μ_5, h_6, hf⟩ := b2_some hf
      refine ci_call S hK hP hD hZ hS hA (tX4_band l D d z o a K p0 μ _ _ h_6) (cwV 1 hts (lw_V q1910 q1912 qs72 q101 q1913) rfl rfl rfl (by decide +kernel) ⟨Nat.le_of_ble_eq_true rfl, Nat.le_of_ble_eq_true rfl⟩) (ci := 0) (q0 := 0) rfl rfl rfl hl.1 rfl (Nat.le_of_ble_eq_true rfl) ⟨Nat.le_of_ble_eq_true rfl, Nat.le_of_ble_eq_true rfl⟩ dX4_bandOf_16 ?_
      clear hP hD hS
      intro H locs hP hD hS
      clear h_6
      refine lv_goto (tgt := 23) hx hb dX4_bandOf_19 (by decide) ?_
      exact hret _ _ _ _ _ _ hf dX4_bandOf_23 hP hD hS
def fX4_remember_L54 (K : Nat) : Nat → Int32 → MS → Option MS
  | 0, _, _ => none
  | n + 1, x54_1, μ54 =>
    if (254 : Int32) ≤ x54_1 then
      nm (sI μ54 2 ((μ54.1 2) + (1 : Int32))) fun μ_3 =>
      some μ_3
    else
      ga (ix x54_1 254) <|
      ga (ix (((254 : Int32) * (μ54.1 2)) + x54_1) 3048) <|
      nm (sF μ54 1 (upd (μ54.2.2 1) (((254 : Int32) * (μ54.1 2)) + x54_1).toNatClampNeg (μ54.2.2 0 x54_1.toNatClampNeg))) fun μ_6 =>
      fX4_remember_L54 K n (x54_1 + (1 : Int32)) μ_6
def fX4_remember_L13 (K : Nat) : Nat → Int32 → MS → Option MS
  | 0, _, _ => none
  | n + 1, x13_1, μ13 =>
    if (3048 : Int32) ≤ x13_1 then
      nm (sI μ13 2 ((μ13.1 2) - (1 : Int32))) fun μ_8 =>
      fX4_remember_L54 K K (0 : Int32) μ_8
    else
      ga (ix x13_1 3048) <|
      ga (ix (x13_1 - (254 : Int32)) 3048) <|
      nm (sF μ13 1 (upd (μ13.2.2 1) (x13_1 - (254 : Int32)).toNatClampNeg (μ13.2.2 1 x13_1.toNatClampNeg))) fun μ_11 =>
      fX4_remember_L13 K n (x13_1 + (1 : Int32)) μ_11
def fX4_remember (K : Nat) (μ : MS) : Option MS :=
  if (μ.1 2) = (12 : Int32) then
    fX4_remember_L13 K K (254 : Int32) μ
  else
    fX4_remember_L54 K K (0 : Int32) μ
set_option maxHeartbeats 4000000 in
set_option maxRecDepth 100000 in
theorem tX4_remember (l : Launch) (D : va_G) (d : Nat → ClassId) (z : ZT) (o : Nat) (a : Nat → Nat) (K : Nat) (μ : MS) (μ' : MS) (hf : fX4_remember K μ = some μ') : CV l yX4_remember (ws_ yX4_remember cX4_remember 2 (Option.none : Option Jvm.ClassFile.FieldType)) (rmc 0 0 0 0) D d z [.ref o] (MP d o a μ) (MP d o a μ') := by
  refine mV_of rfl (by decide) (Nat.le_of_ble_eq_true rfl) ?_
  intro p e s m args below meth c A Q ls S hK hP hD hZ hS hA hl hret
  have hx := S.1
  have hb := S.2.1
  have hts := S.2.2.2.2
  have hl : lv_has ls 2 [(0, .ref o)] := hl
  have L54 : ∀ (n : Nat) (x54_1 : Int32) (μ54 : MS) (H : Heap) (locs : List Loc) (ls : Array Slot), fX4_remember_L54 K n x54_1 μ54 = some μ' → va_P D CL (MP d o a μ54) H → va_D A (MP d o a μ54) → va_S A s.heap H locs → lv_has ls 2 [(0, .ref o), (1, .int x54_1)] → W p l e (rmc 0 0 0 0) s m args below meth c H locs 0 0 Q (F0 m 54 ls []) := by
    intro n
    induction n with
    | zero =>
      intro x54_1 μ54 H locs ls hf hP hD hS hl
      rw [fX4_remember_L54] at hf
      cases hf
    | succ n ih =>
      intro x54_1 μ54 H locs ls hf hP hD hS hl
      rw [fX4_remember_L54] at hf
      refine lv_iload_n hx hb dX4_remember_54 rfl (lv_at hl 1 rfl) ?_
      refine lv_sipush (v := 254) hx hb dX4_remember_55 (by decide) ?_
      refine lv_icmp_ge (tgt := 88) hx hb dX4_remember_58 (by decide) (fun c_2 => ?_) (fun c_2 => ?_)
      · replace hf := it_t hf c_2
        clear c_2
        refine lv_aload_n hx hb dX4_remember_88 rfl (lv_at hl 0 rfl) ?_
        refine lv_dup hx hb dX4_remember_89 rfl ?_
        refine m_get S hK hP 2 (by decide) q1602 rfl dX4_remember_90 ?_
        refine lv_iconst (v := 1) hx hb dX4_remember_93 (by decide) ?_
        refine lv_iadd hx hb dX4_remember_94 ?_
        refine m_putI S hK hP hD hS 2 (by decide) q1602 rfl rfl rfl rfl rfl dX4_remember_95 ?_
        clear hP hD hS
        intro μ_3 e_ H locs hP hD hS
        replace hf := nm_some hf μ_3 e_
        clear e_
        exact hret _ _ _ _ _ hf dX4_remember_98 hP hD hS
      · replace hf := it_f hf c_2
        clear c_2
        refine lv_aload_n hx hb dX4_remember_61 rfl (lv_at hl 0 rfl) ?_
        refine m_get S hK hP 1 (by decide) q1601 rfl dX4_remember_62 ?_
        refine lv_sipush (v := 254) hx hb dX4_remember_65 (by decide) ?_
        refine lv_aload_n hx hb dX4_remember_68 rfl (lv_at hl 0 rfl) ?_
        refine m_get S hK hP 2 (by decide) q1602 rfl dX4_remember_69 ?_
        refine lv_imul hx hb dX4_remember_72 ?_
        refine lv_iload_n hx hb dX4_remember_73 rfl (lv_at hl 1 rfl) ?_
        refine lv_iadd hx hb dX4_remember_74 ?_
        refine lv_aload_n hx hb dX4_remember_75 rfl (lv_at hl 0 rfl) ?_
        refine m_get S hK hP 0 (by decide) q1600 rfl dX4_remember_76 ?_
        refine lv_iload_n hx hb dX4_remember_79 rfl (lv_at hl 1 rfl) ?_
        obtain ⟨g_4, hf⟩ := ga_some hf
        refine m_ild S hK hP 0 1 rfl g_4 dX4_remember_80 ?_
        clear g_4
        obtain ⟨g_5, hf⟩ := ga_some hf
        refine m_ist S hK hP hD hS 1 2 rfl g_5 rfl dX4_remember_81 ?_
        clear hP hD hS
        intro μ_6 e_ H locs hP hD hS
        replace hf := nm_some hf μ_6 e_
        clear e_
        clear g_5
        refine lv_iinc (v := x54_1 + (1 : Int32)) (lv' := [(1, .int (x54_1 + (1 : Int32))), (0, .ref o)]) hx hb dX4_remember_82 hl (k := 1) rfl rfl (by decide) rfl (fun ls hl => ?_)
        refine lv_goto (tgt := 54) hx hb dX4_remember_85 (by decide) ?_
        exact ih (x54_1 + (1 : Int32)) μ_6 _ _ _ hf hP hD hS (lv_sub hl [1, 0] rfl)
  have L13 : ∀ (n : Nat) (x13_1 : Int32) (μ13 : MS) (H : Heap) (locs : List Loc) (ls : Array Slot), fX4_remember_L13 K n x13_1 μ13 = some μ' → va_P D CL (MP d o a μ13) H → va_D A (MP d o a μ13) → va_S A s.heap H locs → lv_has ls 2 [(0, .ref o), (1, .int x13_1)] → W p l e (rmc 0 0 0 0) s m args below meth c H locs 0 0 Q (F0 m 13 ls []) := by
    intro n
    induction n with
    | zero =>
      intro x13_1 μ13 H locs ls hf hP hD hS hl
      rw [fX4_remember_L13] at hf
      cases hf
    | succ n ih =>
      intro x13_1 μ13 H locs ls hf hP hD hS hl
      rw [fX4_remember_L13] at hf
      refine lv_iload_n hx hb dX4_remember_13 rfl (lv_at hl 1 rfl) ?_
      refine lv_sipush (v := 3048) hx hb dX4_remember_14 (by decide) ?_
      refine lv_icmp_ge (tgt := 42) hx hb dX4_remember_17 (by decide) (fun c_7 => ?_) (fun c_7 => ?_)
      · replace hf := it_t hf c_7
        clear c_7
        refine lv_aload_n hx hb dX4_remember_42 rfl (lv_at hl 0 rfl) ?_
        refine lv_dup hx hb dX4_remember_43 rfl ?_
        refine m_get S hK hP 2 (by decide) q1602 rfl dX4_remember_44 ?_
        refine lv_iconst (v := 1) hx hb dX4_remember_47 (by decide) ?_
        refine lv_isub hx hb dX4_remember_48 ?_
        refine m_putI S hK hP hD hS 2 (by decide) q1602 rfl rfl rfl rfl rfl dX4_remember_49 ?_
        clear hP hD hS
        intro μ_8 e_ H locs hP hD hS
        replace hf := nm_some hf μ_8 e_
        clear e_
        refine lv_iconst (v := 0) hx hb dX4_remember_52 (by decide) ?_
        refine lv_istore_n (lv' := [(1, .int (0 : Int32)), (0, .ref o)]) hx hb dX4_remember_53 rfl hl (by decide) rfl (fun ls hl => ?_)
        exact L54 K (0 : Int32) μ_8 _ _ _ hf hP hD hS (lv_sub hl [1, 0] rfl)
      · replace hf := it_f hf c_7
        clear c_7
        refine lv_aload_n hx hb dX4_remember_20 rfl (lv_at hl 0 rfl) ?_
        refine m_get S hK hP 1 (by decide) q1601 rfl dX4_remember_21 ?_
        refine lv_iload_n hx hb dX4_remember_24 rfl (lv_at hl 1 rfl) ?_
        refine lv_sipush (v := 254) hx hb dX4_remember_25 (by decide) ?_
        refine lv_isub hx hb dX4_remember_28 ?_
        refine lv_aload_n hx hb dX4_remember_29 rfl (lv_at hl 0 rfl) ?_
        refine m_get S hK hP 1 (by decide) q1601 rfl dX4_remember_30 ?_
        refine lv_iload_n hx hb dX4_remember_33 rfl (lv_at hl 1 rfl) ?_
        obtain ⟨g_9, hf⟩ := ga_some hf
        refine m_ild S hK hP 1 2 rfl g_9 dX4_remember_34 ?_
        clear g_9
        obtain ⟨g_10, hf⟩ := ga_some hf
        refine m_ist S hK hP hD hS 1 2 rfl g_10 rfl dX4_remember_35 ?_
        clear hP hD hS
        intro μ_11 e_ H locs hP hD hS
        replace hf := nm_some hf μ_11 e_
        clear e_
        clear g_10
        refine lv_iinc (v := x13_1 + (1 : Int32)) (lv' := [(1, .int (x13_1 + (1 : Int32))), (0, .ref o)]) hx hb dX4_remember_36 hl (k := 1) rfl rfl (by decide) rfl (fun ls hl => ?_)
        refine lv_goto (tgt := 13) hx hb dX4_remember_39 (by decide) ?_
        exact ih (x13_1 + (1 : Int32)) μ_11 _ _ _ hf hP hD hS (lv_sub hl [1, 0] rfl)
  unfold fX4_remember at hf
  refine lv_aload_n hx hb dX4_remember_0 rfl (lv_at hl 0 rfl) ?_
  refine m_get S hK hP 2 (by decide) q1602 rfl dX4_remember_1 ?_
  refine lv_bipush (v := 12) hx hb dX4_remember_4 (by decide) ?_
  refine lv_icmp_ne (tgt := 52) hx hb dX4_remember_6 (by decide) (fun c_1 => ?_) (fun c_1 => ?_)
  · replace hf := it_f hf c_1
    clear c_1
    refine lv_iconst (v := 0) hx hb dX4_remember_52 (by decide) ?_
    refine lv_istore_n (lv' := [(1, .int (0 : Int32)), (0, .ref o)]) hx hb dX4_remember_53 rfl hl (by decide) rfl (fun ls hl => ?_)
    exact L54 K (0 : Int32) μ _ _ _ hf hP hD hS (lv_sub hl [1, 0] rfl)
  · replace hf := it_t hf c_1
    clear c_1
    refine lv_sipush (v := 254) hx hb dX4_remember_9 (by decide) ?_
    refine lv_istore_n (lv' := [(1, .int (254 : Int32)), (0, .ref o)]) hx hb dX4_remember_12 rfl hl (by decide) rfl (fun ls hl => ?_)
    exact L13 K (254 : Int32) μ _ _ _ hf hP hD hS (lv_sub hl [1, 0] rfl)
def fX4_undo_L31 (K : Nat) : Nat → Int32 → MS → Option (Int32 × MS)
  | 0, _, _ => none
  | n + 1, x31_1, μ31 =>
    if (254 : Int32) ≤ x31_1 then
      some (μ31.1 2, μ31)
    else
      ga (ix (((254 : Int32) * (μ31.1 2)) + x31_1) 3048) <|
      ga (ix x31_1 254) <|
      nm (sF μ31 0 (upd (μ31.2.2 0) x31_1.toNatClampNeg (μ31.2.2 1 (((254 : Int32) * (μ31.1 2)) + x31_1).toNatClampNeg))) fun μ_7 =>
      fX4_undo_L31 K n (x31_1 + (1 : Int32)) μ_7
def fX4_undo (K : Nat) (μ : MS) : Option (Int32 × MS) :=
  if (μ.1 3) = 0 then
    some ((-1 : Int32), μ)
  else
    if (μ.1 2) = 0 then
      some ((-2 : Int32), μ)
    else
      nm (sI μ 2 ((μ.1 2) - (1 : Int32))) fun μ_3 =>
      fX4_undo_L31 K K (0 : Int32) μ_3
set_option maxHeartbeats 4000000 in
set_option maxRecDepth 100000 in
theorem tX4_undo (l : Launch) (D : va_G) (d : Nat → ClassId) (z : ZT) (o : Nat) (a : Nat → Nat) (K : Nat) (μ : MS) (r : Int32) (μ' : MS) (hf : fX4_undo K μ = some (r, μ')) : CI l yX4_undo (ws_ yX4_undo cX4_undo 2 (Option.some Jvm.ClassFile.FieldType.int)) (rmc 0 0 0 0) D d z [.ref o] (MP d o a μ) r (MP d o a μ') := by
  refine mI_of rfl (by decide) (Nat.le_of_ble_eq_true rfl) ?_
  intro p e s m args below meth c A Q ls S hK hP hD hZ hS hA hl hret
  have hx := S.1
  have hb := S.2.1
  have hts := S.2.2.2.2
  have hl : lv_has ls 2 [(0, .ref o)] := hl
  have L31 : ∀ (n : Nat) (x31_1 : Int32) (μ31 : MS) (H : Heap) (locs : List Loc) (ls : Array Slot), fX4_undo_L31 K n x31_1 μ31 = some (r, μ') → va_P D CL (MP d o a μ31) H → va_D A (MP d o a μ31) → va_S A s.heap H locs → lv_has ls 2 [(0, .ref o), (1, .int x31_1)] → W p l e (rmc 0 0 0 0) s m args below meth c H locs 0 0 Q (F0 m 31 ls []) := by
    intro n
    induction n with
    | zero =>
      intro x31_1 μ31 H locs ls hf hP hD hS hl
      rw [fX4_undo_L31] at hf
      cases hf
    | succ n ih =>
      intro x31_1 μ31 H locs ls hf hP hD hS hl
      rw [fX4_undo_L31] at hf
      refine lv_iload_n hx hb dX4_undo_31 rfl (lv_at hl 1 rfl) ?_
      refine lv_sipush (v := 254) hx hb dX4_undo_32 (by decide) ?_
      refine lv_icmp_ge (tgt := 65) hx hb dX4_undo_35 (by decide) (fun c_4 => ?_) (fun c_4 => ?_)
      · replace hf := it_t hf c_4
        clear c_4
        refine lv_aload_n hx hb dX4_undo_65 rfl (lv_at hl 0 rfl) ?_
        refine m_get S hK hP 2 (by decide) q1602 rfl dX4_undo_66 ?_
        exact hret _ _ _ _ _ _ hf dX4_undo_69 hP hD hS
      · replace hf := it_f hf c_4
        clear c_4
        refine lv_aload_n hx hb dX4_undo_38 rfl (lv_at hl 0 rfl) ?_
        refine m_get S hK hP 0 (by decide) q1600 rfl dX4_undo_39 ?_
        refine lv_iload_n hx hb dX4_undo_42 rfl (lv_at hl 1 rfl) ?_
        refine lv_aload_n hx hb dX4_undo_43 rfl (lv_at hl 0 rfl) ?_
        refine m_get S hK hP 1 (by decide) q1601 rfl dX4_undo_44 ?_
        refine lv_sipush (v := 254) hx hb dX4_undo_47 (by decide) ?_
        refine lv_aload_n hx hb dX4_undo_50 rfl (lv_at hl 0 rfl) ?_
        refine m_get S hK hP 2 (by decide) q1602 rfl dX4_undo_51 ?_
        refine lv_imul hx hb dX4_undo_54 ?_
        refine lv_iload_n hx hb dX4_undo_55 rfl (lv_at hl 1 rfl) ?_
        refine lv_iadd hx hb dX4_undo_56 ?_
        obtain ⟨g_5, hf⟩ := ga_some hf
        refine m_ild S hK hP 1 2 rfl g_5 dX4_undo_57 ?_
        clear g_5
        obtain ⟨g_6, hf⟩ := ga_some hf
        refine m_ist S hK hP hD hS 0 1 rfl g_6 rfl dX4_undo_58 ?_
        clear hP hD hS
        intro μ_7 e_ H locs hP hD hS
        replace hf := nm_some hf μ_7 e_
        clear e_
        clear g_6
        refine lv_iinc (v := x31_1 + (1 : Int32)) (lv' := [(1, .int (x31_1 + (1 : Int32))), (0, .ref o)]) hx hb dX4_undo_59 hl (k := 1) rfl rfl (by decide) rfl (fun ls hl => ?_)
        refine lv_goto (tgt := 31) hx hb dX4_undo_62 (by decide) ?_
        exact ih (x31_1 + (1 : Int32)) μ_7 _ _ _ hf hP hD hS (lv_sub hl [1, 0] rfl)
  unfold fX4_undo at hf
  refine lv_aload_n hx hb dX4_undo_0 rfl (lv_at hl 0 rfl) ?_
  refine m_get S hK hP 3 (by decide) q1603 rfl dX4_undo_1 ?_
  refine lv_if_ne (tgt := 9) hx hb dX4_undo_4 (by decide) (fun c_1 => ?_) (fun c_1 => ?_)
  · replace hf := it_f hf c_1
    clear c_1
    refine lv_aload_n hx hb dX4_undo_9 rfl (lv_at hl 0 rfl) ?_
    refine m_get S hK hP 2 (by decide) q1602 rfl dX4_undo_10 ?_
    refine lv_if_ne (tgt := 19) hx hb dX4_undo_13 (by decide) (fun c_2 => ?_) (fun c_2 => ?_)
    · replace hf := it_f hf c_2
      clear c_2
      refine lv_aload_n hx hb dX4_undo_19 rfl (lv_at hl 0 rfl) ?_
      refine lv_dup hx hb dX4_undo_20 rfl ?_
      refine m_get S hK hP 2 (by decide) q1602 rfl dX4_undo_21 ?_
      refine lv_iconst (v := 1) hx hb dX4_undo_24 (by decide) ?_
      refine lv_isub hx hb dX4_undo_25 ?_
      refine m_putI S hK hP hD hS 2 (by decide) q1602 rfl rfl rfl rfl rfl dX4_undo_26 ?_
      clear hP hD hS
      intro μ_3 e_ H locs hP hD hS
      replace hf := nm_some hf μ_3 e_
      clear e_
      refine lv_iconst (v := 0) hx hb dX4_undo_29 (by decide) ?_
      refine lv_istore_n (lv' := [(1, .int (0 : Int32)), (0, .ref o)]) hx hb dX4_undo_30 rfl hl (by decide) rfl (fun ls hl => ?_)
      exact L31 K (0 : Int32) μ_3 _ _ _ hf hP hD hS (lv_sub hl [1, 0] rfl)
    · replace hf := it_t hf c_2
      clear c_2
      refine lv_bipush (v := -2) hx hb dX4_undo_16 (by decide) ?_
      exact hret _ _ _ _ _ _ hf dX4_undo_18 hP hD hS
  · replace hf := it_t hf c_1
    clear c_1
    refine lv_iconst (v := -1) hx hb dX4_undo_7 (by decide) ?_
    exact hret _ _ _ _ _ _ hf dX4_undo_8 hP hD hS
def fX4_change_L24 (K : Nat) (x24_1 : Int32) (x24_2 : Int32) (μ24 : MS) : Option MS :=
  ga (ix x24_1 254) <|
  nm (sF μ24 0 (upd (μ24.2.2 0) x24_1.toNatClampNeg x24_2)) fun μ_4 =>
  some μ_4
def fX4_change (K : Nat) (p0 : Int32) (p1 : Int32) (μ : MS) : Option MS :=
  ga (ix p0 254) <|
  if (μ.2.2 0 p0.toNatClampNeg) = p1 then
    fX4_change_L24 K p0 p1 μ
  else
    ga (ix (2 : Int32) 254) <|
    nm (sF μ 0 (upd (μ.2.2 0) (2 : Int32).toNatClampNeg (0 : Int32))) fun μ_6 =>
    ga (ix (3 : Int32) 254) <|
    nm (sF μ_6 0 (upd (μ_6.2.2 0) (3 : Int32).toNatClampNeg (1 : Int32))) fun μ_8 =>
    fX4_change_L24 K p0 p1 μ_8
set_option maxHeartbeats 4000000 in
set_option maxRecDepth 100000 in
theorem tX4_change (l : Launch) (D : va_G) (d : Nat → ClassId) (z : ZT) (o : Nat) (a : Nat → Nat) (K : Nat) (p0 : Int32) (p1 : Int32) (μ : MS) (μ' : MS) (hf : fX4_change K p0 p1 μ = some μ') : CV l yX4_change (ws_ yX4_change cX4_change 3 (Option.none : Option Jvm.ClassFile.FieldType)) (rmc 0 0 0 0) D d z [.ref o, .int p0, .int p1] (MP d o a μ) (MP d o a μ') := by
  refine mV_of rfl (by decide) (Nat.le_of_ble_eq_true rfl) ?_
  intro p e s m args below meth c A Q ls S hK hP hD hZ hS hA hl hret
  have hx := S.1
  have hb := S.2.1
  have hts := S.2.2.2.2
  have hl : lv_has ls 3 [(0, .ref o), (1, .int p0), (2, .int p1)] := hl
  have L24 : ∀ (x24_1 : Int32) (x24_2 : Int32) (μ24 : MS) (H : Heap) (locs : List Loc) (ls : Array Slot), fX4_change_L24 K x24_1 x24_2 μ24 = some μ' → va_P D CL (MP d o a μ24) H → va_D A (MP d o a μ24) → va_S A s.heap H locs → lv_has ls 3 [(0, .ref o), (1, .int x24_1), (2, .int x24_2)] → W p l e (rmc 0 0 0 0) s m args below meth c H locs 0 0 Q (F0 m 24 ls []) := by
    intro x24_1 x24_2 μ24 H locs ls hf hP hD hS hl
    unfold fX4_change_L24 at hf
    refine lv_aload_n hx hb dX4_change_24 rfl (lv_at hl 0 rfl) ?_
    refine m_get S hK hP 0 (by decide) q1600 rfl dX4_change_25 ?_
    refine lv_iload_n hx hb dX4_change_28 rfl (lv_at hl 1 rfl) ?_
    refine lv_iload_n hx hb dX4_change_29 rfl (lv_at hl 2 rfl) ?_
    obtain ⟨g_3, hf⟩ := ga_some hf
    refine m_ist S hK hP hD hS 0 1 rfl g_3 rfl dX4_change_30 ?_
    clear hP hD hS
    intro μ_4 e_ H locs hP hD hS
    replace hf := nm_some hf μ_4 e_
    clear e_
    clear g_3
    exact hret _ _ _ _ _ hf dX4_change_31 hP hD hS
  unfold fX4_change at hf
  refine lv_aload_n hx hb dX4_change_0 rfl (lv_at hl 0 rfl) ?_
  refine m_get S hK hP 0 (by decide) q1600 rfl dX4_change_1 ?_
  refine lv_iload_n hx hb dX4_change_4 rfl (lv_at hl 1 rfl) ?_
  obtain ⟨g_1, hf⟩ := ga_some hf
  refine m_ild S hK hP 0 1 rfl g_1 dX4_change_5 ?_
  clear g_1
  refine lv_iload_n hx hb dX4_change_6 rfl (lv_at hl 2 rfl) ?_
  refine lv_icmp_eq (tgt := 24) hx hb dX4_change_7 (by decide) (fun c_2 => ?_) (fun c_2 => ?_)
  · replace hf := it_t hf c_2
    clear c_2
    exact L24 p0 p1 μ _ _ _ hf hP hD hS (lv_sub hl [0, 1, 2] rfl)
  · replace hf := it_f hf c_2
    clear c_2
    refine lv_aload_n hx hb dX4_change_10 rfl (lv_at hl 0 rfl) ?_
    refine m_get S hK hP 0 (by decide) q1600 rfl dX4_change_11 ?_
    refine lv_iconst (v := 2) hx hb dX4_change_14 (by decide) ?_
    refine lv_iconst (v := 0) hx hb dX4_change_15 (by decide) ?_
    obtain ⟨g_5, hf⟩ := ga_some hf
    refine m_ist S hK hP hD hS 0 1 rfl g_5 rfl dX4_change_16 ?_
    clear hP hD hS
    intro μ_6 e_ H locs hP hD hS
    replace hf := nm_some hf μ_6 e_
    clear e_
    clear g_5
    refine lv_aload_n hx hb dX4_change_17 rfl (lv_at hl 0 rfl) ?_
    refine m_get S hK hP 0 (by decide) q1600 rfl dX4_change_18 ?_
    refine lv_iconst (v := 3) hx hb dX4_change_21 (by decide) ?_
    refine lv_iconst (v := 1) hx hb dX4_change_22 (by decide) ?_
    obtain ⟨g_7, hf⟩ := ga_some hf
    refine m_ist S hK hP hD hS 0 1 rfl g_7 rfl dX4_change_23 ?_
    clear hP hD hS
    intro μ_8 e_ H locs hP hD hS
    replace hf := nm_some hf μ_8 e_
    clear e_
    clear g_7
    exact L24 p0 p1 μ_8 _ _ _ hf hP hD hS (lv_sub hl [0, 1, 2] rfl)
def fX4_setFrequency (K : Nat) (p0 : Int32) (μ : MS) : Option (Int32 × MS) :=
  if (μ.1 3) = 0 then
    some ((-1 : Int32), μ)
  else
    b1 (fX4_isFrequency K p0) fun r_2 =>
    if r_2 = true then
      b1 (fX4_remember K μ) fun μ_5 =>
      ga (ix (0 : Int32) 254) <|
      nm (μ_5.2.2 0 (0 : Int32).toNatClampNeg) fun v_8 =>
      b1 (fX4_change K (0 : Int32) p0 μ_5) fun μ_9 =>
      some (v_8, μ_9)
    else
      some ((-1 : Int32), μ)
set_option maxHeartbeats 4000000 in
set_option maxRecDepth 100000 in
theorem tX4_setFrequency (l : Launch) (D : va_G) (d : Nat → ClassId) (z : ZT) (o : Nat) (a : Nat → Nat) (K : Nat) (p0 : Int32) (μ : MS) (r : Int32) (μ' : MS) (hf : fX4_setFrequency K p0 μ = some (r, μ')) : CI l yX4_setFrequency (ws_ yX4_setFrequency cX4_setFrequency 3 (Option.some Jvm.ClassFile.FieldType.int)) (rmc 2 0 0 45) D d z [.ref o, .int p0] (MP d o a μ) r (MP d o a μ') := by
  refine mI_of rfl (by decide) (Nat.le_of_ble_eq_true rfl) ?_
  intro p e s m args below meth c A Q ls S hK hP hD hZ hS hA hl hret
  have hx := S.1
  have hb := S.2.1
  have hts := S.2.2.2.2
  have hl : lv_has ls 3 [(0, .ref o), (1, .int p0)] := hl
  unfold fX4_setFrequency at hf
  refine lv_aload_n hx hb dX4_setFrequency_0 rfl (lv_at hl 0 rfl) ?_
  refine m_get S hK hP 3 (by decide) q1603 rfl dX4_setFrequency_1 ?_
  refine lv_if_eq (tgt := 14) hx hb dX4_setFrequency_4 (by decide) (fun c_1 => ?_) (fun c_1 => ?_)
  · replace hf := it_t hf c_1
    clear c_1
    refine lv_iconst (v := -1) hx hb dX4_setFrequency_14 (by decide) ?_
    exact hret _ _ _ _ _ _ hf dX4_setFrequency_15 hP hD hS
  · replace hf := it_f hf c_1
    clear c_1
    refine lv_iload_n hx hb dX4_setFrequency_7 rfl (lv_at hl 1 rfl) ?_
    obtain ⟨r_2, h_3, hf⟩ := b1_some hf
    refine si_call S (tX4_isFrequency l K p0 _ h_3) (va_cwS 1 hts (lw_S q1870 q1871 q101 q1872) rfl rfl rfl (by decide +kernel) ⟨Nat.le_of_ble_eq_true rfl, Nat.le_of_ble_eq_true rfl⟩) rfl hl.1 rfl (Nat.le_of_ble_eq_true rfl) ⟨Nat.le_of_ble_eq_true rfl, Nat.le_of_ble_eq_true rfl⟩ dX4_setFrequency_8 ?_
    clear h_3
    refine lv_if_ne (tgt := 16) hx hb dX4_setFrequency_11 (by decide) (fun c_4 => ?_) (fun c_4 => ?_)
    · replace hf := it_t hf (bi_n0 c_4)
      clear c_4
      refine lv_aload_n hx hb dX4_setFrequency_16 rfl (lv_at hl 0 rfl) ?_
      obtain ⟨μ_5, h_6, hf⟩ := b1_some hf
      refine cv_call S hK hP hD hZ hS hA (tX4_remember l D d z o a K μ _ h_6) (cwV 0 hts (lw_V q1922 q1924 qs73 q101 q1925) rfl rfl rfl (by decide +kernel) ⟨Nat.le_of_ble_eq_true rfl, Nat.le_of_ble_eq_true rfl⟩) (ci := 0) (q0 := 0) rfl rfl rfl hl.1 rfl (Nat.le_of_ble_eq_true rfl) ⟨Nat.le_of_ble_eq_true rfl, Nat.le_of_ble_eq_true rfl⟩ dX4_setFrequency_17 ?_
      clear hP hD hS
      intro H locs hP hD hS
      clear h_6
      refine lv_aload_n hx hb dX4_setFrequency_20 rfl (lv_at hl 0 rfl) ?_
      refine m_get S hK hP 0 (by decide) q1600 rfl dX4_setFrequency_21 ?_
      refine lv_iconst (v := 0) hx hb dX4_setFrequency_24 (by decide) ?_
      obtain ⟨g_7, hf⟩ := ga_some hf
      refine m_ild S hK hP 0 1 rfl g_7 dX4_setFrequency_25 ?_
      clear g_7
      refine lv_topi (fun v_8 e_ => ?_)
      replace hf := nm_some hf v_8 e_
      clear e_
      refine lv_istore_n (lv' := [(2, .int v_8), (0, .ref o), (1, .int p0)]) hx hb dX4_setFrequency_26 rfl hl (by decide) rfl (fun ls hl => ?_)
      refine lv_aload_n hx hb dX4_setFrequency_27 rfl (lv_at hl 1 rfl) ?_
      refine lv_iconst (v := 0) hx hb dX4_setFrequency_28 (by decide) ?_
      refine lv_iload_n hx hb dX4_setFrequency_29 rfl (lv_at hl 2 rfl) ?_
      obtain ⟨μ_9, h_10, hf⟩ := b1_some hf
      refine cv_call S hK hP hD hZ hS hA (tX4_change l D d z o a K (0 : Int32) p0 μ_5 _ h_10) (cwV 2 hts (lw_V q1926 q1928 qs74 q101 q1929) rfl rfl rfl (by decide +kernel) ⟨Nat.le_of_ble_eq_true rfl, Nat.le_of_ble_eq_true rfl⟩) (ci := 0) (q0 := 0) rfl rfl rfl hl.1 rfl (Nat.le_of_ble_eq_true rfl) ⟨Nat.le_of_ble_eq_true rfl, Nat.le_of_ble_eq_true rfl⟩ dX4_setFrequency_30 ?_
      clear hP hD hS
      intro H locs hP hD hS
      clear h_10
      refine lv_iload_n hx hb dX4_setFrequency_33 rfl (lv_at hl 0 rfl) ?_
      exact hret _ _ _ _ _ _ hf dX4_setFrequency_34 hP hD hS
    · replace hf := it_f hf (bi_e0 c_4)
      clear c_4
      refine lv_iconst (v := -1) hx hb dX4_setFrequency_14 (by decide) ?_
      exact hret _ _ _ _ _ _ hf dX4_setFrequency_15 hP hD hS
def fX4_setSide (K : Nat) (p0 : Int32) (μ : MS) : Option (Int32 × MS) :=
  if (μ.1 3) = 0 then
    some ((-1 : Int32), μ)
  else
    b1 (fX4_isIn K p0.toInt64 (0 : Int64) (1 : Int64)) fun r_2 =>
    if r_2 = true then
      b1 (fX4_remember K μ) fun μ_5 =>
      ga (ix (1 : Int32) 254) <|
      nm (μ_5.2.2 0 (1 : Int32).toNatClampNeg) fun v_8 =>
      b1 (fX4_coil K v_8) fun r_9 =>
      b1 (fX4_capacitor K v_8) fun r_11 =>
      b1 (fX4_together K p0 r_9 r_11) fun r_13 =>
      b1 (fX4_change K (1 : Int32) r_13 μ_5) fun μ_15 =>
      b1 (fX4_side K v_8) fun r_17 =>
      some (r_17, μ_15)
    else
      some ((-1 : Int32), μ)
set_option maxHeartbeats 4000000 in
set_option maxRecDepth 100000 in
theorem tX4_setSide (l : Launch) (D : va_G) (d : Nat → ClassId) (z : ZT) (o : Nat) (a : Nat → Nat) (K : Nat) (p0 : Int32) (μ : MS) (r : Int32) (μ' : MS) (hf : fX4_setSide K p0 μ = some (r, μ')) : CI l yX4_setSide (ws_ yX4_setSide cX4_setSide 3 (Option.some Jvm.ClassFile.FieldType.int)) (rmc 1 0 0 25) D d z [.ref o, .int p0] (MP d o a μ) r (MP d o a μ') := by
  refine mI_of rfl (by decide) (Nat.le_of_ble_eq_true rfl) ?_
  intro p e s m args below meth c A Q ls S hK hP hD hZ hS hA hl hret
  have hx := S.1
  have hb := S.2.1
  have hts := S.2.2.2.2
  have hl : lv_has ls 3 [(0, .ref o), (1, .int p0)] := hl
  unfold fX4_setSide at hf
  refine lv_aload_n hx hb dX4_setSide_0 rfl (lv_at hl 0 rfl) ?_
  refine m_get S hK hP 3 (by decide) q1603 rfl dX4_setSide_1 ?_
  refine lv_if_eq (tgt := 17) hx hb dX4_setSide_4 (by decide) (fun c_1 => ?_) (fun c_1 => ?_)
  · replace hf := it_t hf c_1
    clear c_1
    refine lv_iconst (v := -1) hx hb dX4_setSide_17 (by decide) ?_
    exact hret _ _ _ _ _ _ hf dX4_setSide_18 hP hD hS
  · replace hf := it_f hf c_1
    clear c_1
    refine lv_iload_n hx hb dX4_setSide_7 rfl (lv_at hl 1 rfl) ?_
    refine lv_i2l (v := p0.toInt64) hx hb dX4_setSide_8 rfl ?_
    refine lv_lconst (v := 0) hx hb dX4_setSide_9 (by decide) ?_
    refine lv_lconst (v := 1) hx hb dX4_setSide_10 (by decide) ?_
    obtain ⟨r_2, h_3, hf⟩ := b1_some hf
    refine si_call S (tX4_isIn l K p0.toInt64 (0 : Int64) (1 : Int64) _ h_3) (va_cwS 3 hts (lw_S q1754 q1755 q101 q1756) rfl rfl rfl (by decide +kernel) ⟨Nat.le_of_ble_eq_true rfl, Nat.le_of_ble_eq_true rfl⟩) rfl hl.1 rfl (Nat.le_of_ble_eq_true rfl) ⟨Nat.le_of_ble_eq_true rfl, Nat.le_of_ble_eq_true rfl⟩ dX4_setSide_11 ?_
    clear h_3
    refine lv_if_ne (tgt := 19) hx hb dX4_setSide_14 (by decide) (fun c_4 => ?_) (fun c_4 => ?_)
    · replace hf := it_t hf (bi_n0 c_4)
      clear c_4
      refine lv_aload_n hx hb dX4_setSide_19 rfl (lv_at hl 0 rfl) ?_
      obtain ⟨μ_5, h_6, hf⟩ := b1_some hf
      refine cv_call S hK hP hD hZ hS hA (tX4_remember l D d z o a K μ _ h_6) (cwV 0 hts (lw_V q1922 q1924 qs73 q101 q1925) rfl rfl rfl (by decide +kernel) ⟨Nat.le_of_ble_eq_true rfl, Nat.le_of_ble_eq_true rfl⟩) (ci := 0) (q0 := 0) rfl rfl rfl hl.1 rfl (Nat.le_of_ble_eq_true rfl) ⟨Nat.le_of_ble_eq_true rfl, Nat.le_of_ble_eq_true rfl⟩ dX4_setSide_20 ?_
      clear hP hD hS
      intro H locs hP hD hS
      clear h_6
      refine lv_aload_n hx hb dX4_setSide_23 rfl (lv_at hl 0 rfl) ?_
      refine m_get S hK hP 0 (by decide) q1600 rfl dX4_setSide_24 ?_
      refine lv_iconst (v := 1) hx hb dX4_setSide_27 (by decide) ?_
      obtain ⟨g_7, hf⟩ := ga_some hf
      refine m_ild S hK hP 0 1 rfl g_7 dX4_setSide_28 ?_
      clear g_7
      refine lv_topi (fun v_8 e_ => ?_)
      replace hf := nm_some hf v_8 e_
      clear e_
      refine lv_istore_n (lv' := [(2, .int v_8), (0, .ref o), (1, .int p0)]) hx hb dX4_setSide_29 rfl hl (by decide) rfl (fun ls hl => ?_)
      refine lv_aload_n hx hb dX4_setSide_30 rfl (lv_at hl 1 rfl) ?_
      refine lv_iconst (v := 1) hx hb dX4_setSide_31 (by decide) ?_
      refine lv_iload_n hx hb dX4_setSide_32 rfl (lv_at hl 2 rfl) ?_
      refine lv_iload_n hx hb dX4_setSide_33 rfl (lv_at hl 0 rfl) ?_
      obtain ⟨r_9, h_10, hf⟩ := b1_some hf
      refine si_call S (tX4_coil l K v_8 _ h_10) (va_cwS 1 hts (lw_S q1934 q1935 q101 q1936) rfl rfl rfl (by decide +kernel) ⟨Nat.le_of_ble_eq_true rfl, Nat.le_of_ble_eq_true rfl⟩) rfl hl.1 rfl (Nat.le_of_ble_eq_true rfl) ⟨Nat.le_of_ble_eq_true rfl, Nat.le_of_ble_eq_true rfl⟩ dX4_setSide_34 ?_
      clear h_10
      refine lv_iload_n hx hb dX4_setSide_37 rfl (lv_at hl 0 rfl) ?_
      obtain ⟨r_11, h_12, hf⟩ := b1_some hf
      refine si_call S (tX4_capacitor l K v_8 _ h_12) (va_cwS 1 hts (lw_S q1937 q1938 q101 q1939) rfl rfl rfl (by decide +kernel) ⟨Nat.le_of_ble_eq_true rfl, Nat.le_of_ble_eq_true rfl⟩) rfl hl.1 rfl (Nat.le_of_ble_eq_true rfl) ⟨Nat.le_of_ble_eq_true rfl, Nat.le_of_ble_eq_true rfl⟩ dX4_setSide_38 ?_
      clear h_12
      obtain ⟨r_13, h_14, hf⟩ := b1_some hf
      refine si_call S (tX4_together l K p0 r_9 r_11 _ h_14) (va_cwS 3 hts (lw_S q1940 q1941 q101 q1942) rfl rfl rfl (by decide +kernel) ⟨Nat.le_of_ble_eq_true rfl, Nat.le_of_ble_eq_true rfl⟩) rfl hl.1 rfl (Nat.le_of_ble_eq_true rfl) ⟨Nat.le_of_ble_eq_true rfl, Nat.le_of_ble_eq_true rfl⟩ dX4_setSide_41 ?_
      clear h_14
      obtain ⟨μ_15, h_16, hf⟩ := b1_some hf
      refine cv_call S hK hP hD hZ hS hA (tX4_change l D d z o a K (1 : Int32) r_13 μ_5 _ h_16) (cwV 2 hts (lw_V q1926 q1928 qs74 q101 q1929) rfl rfl rfl (by decide +kernel) ⟨Nat.le_of_ble_eq_true rfl, Nat.le_of_ble_eq_true rfl⟩) (ci := 0) (q0 := 0) rfl rfl rfl hl.1 rfl (Nat.le_of_ble_eq_true rfl) ⟨Nat.le_of_ble_eq_true rfl, Nat.le_of_ble_eq_true rfl⟩ dX4_setSide_44 ?_
      clear hP hD hS
      intro H locs hP hD hS
      clear h_16
      refine lv_iload_n hx hb dX4_setSide_47 rfl (lv_at hl 0 rfl) ?_
      obtain ⟨r_17, h_18, hf⟩ := b1_some hf
      refine si_call S (tX4_side l K v_8 _ h_18) (va_cwS 1 hts (lw_S q1943 q1944 q101 q1945) rfl rfl rfl (by decide +kernel) ⟨Nat.le_of_ble_eq_true rfl, Nat.le_of_ble_eq_true rfl⟩) rfl hl.1 rfl (Nat.le_of_ble_eq_true rfl) ⟨Nat.le_of_ble_eq_true rfl, Nat.le_of_ble_eq_true rfl⟩ dX4_setSide_48 ?_
      clear h_18
      exact hret _ _ _ _ _ _ hf dX4_setSide_51 hP hD hS
    · replace hf := it_f hf (bi_e0 c_4)
      clear c_4
      refine lv_iconst (v := -1) hx hb dX4_setSide_17 (by decide) ?_
      exact hret _ _ _ _ _ _ hf dX4_setSide_18 hP hD hS
def fX4_setCoil (K : Nat) (p0 : Int32) (μ : MS) : Option (Int32 × MS) :=
  if (μ.1 3) = 0 then
    some ((-1 : Int32), μ)
  else
    b1 (fX4_isIn K p0.toInt64 (0 : Int64) (63 : Int64)) fun r_2 =>
    if r_2 = true then
      b1 (fX4_remember K μ) fun μ_5 =>
      ga (ix (1 : Int32) 254) <|
      nm (μ_5.2.2 0 (1 : Int32).toNatClampNeg) fun v_8 =>
      b1 (fX4_side K v_8) fun r_9 =>
      b1 (fX4_capacitor K v_8) fun r_11 =>
      b1 (fX4_together K r_9 p0 r_11) fun r_13 =>
      b1 (fX4_change K (1 : Int32) r_13 μ_5) fun μ_15 =>
      b1 (fX4_coil K v_8) fun r_17 =>
      some (r_17, μ_15)
    else
      some ((-1 : Int32), μ)
set_option maxHeartbeats 4000000 in
set_option maxRecDepth 100000 in
theorem tX4_setCoil (l : Launch) (D : va_G) (d : Nat → ClassId) (z : ZT) (o : Nat) (a : Nat → Nat) (K : Nat) (p0 : Int32) (μ : MS) (r : Int32) (μ' : MS) (hf : fX4_setCoil K p0 μ = some (r, μ')) : CI l yX4_setCoil (ws_ yX4_setCoil cX4_setCoil 3 (Option.some Jvm.ClassFile.FieldType.int)) (rmc 1 0 0 25) D d z [.ref o, .int p0] (MP d o a μ) r (MP d o a μ') := by
  refine mI_of rfl (by decide) (Nat.le_of_ble_eq_true rfl) ?_
  intro p e s m args below meth c A Q ls S hK hP hD hZ hS hA hl hret
  have hx := S.1
  have hb := S.2.1
  have hts := S.2.2.2.2
  have hl : lv_has ls 3 [(0, .ref o), (1, .int p0)] := hl
  unfold fX4_setCoil at hf
  refine lv_aload_n hx hb dX4_setCoil_0 rfl (lv_at hl 0 rfl) ?_
  refine m_get S hK hP 3 (by decide) q1603 rfl dX4_setCoil_1 ?_
  refine lv_if_eq (tgt := 19) hx hb dX4_setCoil_4 (by decide) (fun c_1 => ?_) (fun c_1 => ?_)
  · replace hf := it_t hf c_1
    clear c_1
    refine lv_iconst (v := -1) hx hb dX4_setCoil_19 (by decide) ?_
    exact hret _ _ _ _ _ _ hf dX4_setCoil_20 hP hD hS
  · replace hf := it_f hf c_1
    clear c_1
    refine lv_iload_n hx hb dX4_setCoil_7 rfl (lv_at hl 1 rfl) ?_
    refine lv_i2l (v := p0.toInt64) hx hb dX4_setCoil_8 rfl ?_
    refine lv_lconst (v := 0) hx hb dX4_setCoil_9 (by decide) ?_
    refine lv_ldc2 hx hb S.2.2.2.1 (hts _ q1950) dX4_setCoil_10 ?_
    obtain ⟨r_2, h_3, hf⟩ := b1_some hf
    refine si_call S (tX4_isIn l K p0.toInt64 (0 : Int64) (63 : Int64) _ h_3) (va_cwS 3 hts (lw_S q1754 q1755 q101 q1756) rfl rfl rfl (by decide +kernel) ⟨Nat.le_of_ble_eq_true rfl, Nat.le_of_ble_eq_true rfl⟩) rfl hl.1 rfl (Nat.le_of_ble_eq_true rfl) ⟨Nat.le_of_ble_eq_true rfl, Nat.le_of_ble_eq_true rfl⟩ dX4_setCoil_13 ?_
    clear h_3
    refine lv_if_ne (tgt := 21) hx hb dX4_setCoil_16 (by decide) (fun c_4 => ?_) (fun c_4 => ?_)
    · replace hf := it_t hf (bi_n0 c_4)
      clear c_4
      refine lv_aload_n hx hb dX4_setCoil_21 rfl (lv_at hl 0 rfl) ?_
      obtain ⟨μ_5, h_6, hf⟩ := b1_some hf
      refine cv_call S hK hP hD hZ hS hA (tX4_remember l D d z o a K μ _ h_6) (cwV 0 hts (lw_V q1922 q1924 qs73 q101 q1925) rfl rfl rfl (by decide +kernel) ⟨Nat.le_of_ble_eq_true rfl, Nat.le_of_ble_eq_true rfl⟩) (ci := 0) (q0 := 0) rfl rfl rfl hl.1 rfl (Nat.le_of_ble_eq_true rfl) ⟨Nat.le_of_ble_eq_true rfl, Nat.le_of_ble_eq_true rfl⟩ dX4_setCoil_22 ?_
      clear hP hD hS
      intro H locs hP hD hS
      clear h_6
      refine lv_aload_n hx hb dX4_setCoil_25 rfl (lv_at hl 0 rfl) ?_
      refine m_get S hK hP 0 (by decide) q1600 rfl dX4_setCoil_26 ?_
      refine lv_iconst (v := 1) hx hb dX4_setCoil_29 (by decide) ?_
      obtain ⟨g_7, hf⟩ := ga_some hf
      refine m_ild S hK hP 0 1 rfl g_7 dX4_setCoil_30 ?_
      clear g_7
      refine lv_topi (fun v_8 e_ => ?_)
      replace hf := nm_some hf v_8 e_
      clear e_
      refine lv_istore_n (lv' := [(2, .int v_8), (0, .ref o), (1, .int p0)]) hx hb dX4_setCoil_31 rfl hl (by decide) rfl (fun ls hl => ?_)
      refine lv_aload_n hx hb dX4_setCoil_32 rfl (lv_at hl 1 rfl) ?_
      refine lv_iconst (v := 1) hx hb dX4_setCoil_33 (by decide) ?_
      refine lv_iload_n hx hb dX4_setCoil_34 rfl (lv_at hl 0 rfl) ?_
      obtain ⟨r_9, h_10, hf⟩ := b1_some hf
      refine si_call S (tX4_side l K v_8 _ h_10) (va_cwS 1 hts (lw_S q1943 q1944 q101 q1945) rfl rfl rfl (by decide +kernel) ⟨Nat.le_of_ble_eq_true rfl, Nat.le_of_ble_eq_true rfl⟩) rfl hl.1 rfl (Nat.le_of_ble_eq_true rfl) ⟨Nat.le_of_ble_eq_true rfl, Nat.le_of_ble_eq_true rfl⟩ dX4_setCoil_35 ?_
      clear h_10
      refine lv_iload_n hx hb dX4_setCoil_38 rfl (lv_at hl 2 rfl) ?_
      refine lv_iload_n hx hb dX4_setCoil_39 rfl (lv_at hl 0 rfl) ?_
      obtain ⟨r_11, h_12, hf⟩ := b1_some hf
      refine si_call S (tX4_capacitor l K v_8 _ h_12) (va_cwS 1 hts (lw_S q1937 q1938 q101 q1939) rfl rfl rfl (by decide +kernel) ⟨Nat.le_of_ble_eq_true rfl, Nat.le_of_ble_eq_true rfl⟩) rfl hl.1 rfl (Nat.le_of_ble_eq_true rfl) ⟨Nat.le_of_ble_eq_true rfl, Nat.le_of_ble_eq_true rfl⟩ dX4_setCoil_40 ?_
      clear h_12
      obtain ⟨r_13, h_14, hf⟩ := b1_some hf
      refine si_call S (tX4_together l K r_9 p0 r_11 _ h_14) (va_cwS 3 hts (lw_S q1940 q1941 q101 q1942) rfl rfl rfl (by decide +kernel) ⟨Nat.le_of_ble_eq_true rfl, Nat.le_of_ble_eq_true rfl⟩) rfl hl.1 rfl (Nat.le_of_ble_eq_true rfl) ⟨Nat.le_of_ble_eq_true rfl, Nat.le_of_ble_eq_true rfl⟩ dX4_setCoil_43 ?_
      clear h_14
      obtain ⟨μ_15, h_16, hf⟩ := b1_some hf
      refine cv_call S hK hP hD hZ hS hA (tX4_change l D d z o a K (1 : Int32) r_13 μ_5 _ h_16) (cwV 2 hts (lw_V q1926 q1928 qs74 q101 q1929) rfl rfl rfl (by decide +kernel) ⟨Nat.le_of_ble_eq_true rfl, Nat.le_of_ble_eq_true rfl⟩) (ci := 0) (q0 := 0) rfl rfl rfl hl.1 rfl (Nat.le_of_ble_eq_true rfl) ⟨Nat.le_of_ble_eq_true rfl, Nat.le_of_ble_eq_true rfl⟩ dX4_setCoil_46 ?_
      clear hP hD hS
      intro H locs hP hD hS
      clear h_16
      refine lv_iload_n hx hb dX4_setCoil_49 rfl (lv_at hl 0 rfl) ?_
      obtain ⟨r_17, h_18, hf⟩ := b1_some hf
      refine si_call S (tX4_coil l K v_8 _ h_18) (va_cwS 1 hts (lw_S q1934 q1935 q101 q1936) rfl rfl rfl (by decide +kernel) ⟨Nat.le_of_ble_eq_true rfl, Nat.le_of_ble_eq_true rfl⟩) rfl hl.1 rfl (Nat.le_of_ble_eq_true rfl) ⟨Nat.le_of_ble_eq_true rfl, Nat.le_of_ble_eq_true rfl⟩ dX4_setCoil_50 ?_
      clear h_18
      exact hret _ _ _ _ _ _ hf dX4_setCoil_53 hP hD hS
    · replace hf := it_f hf (bi_e0 c_4)
      clear c_4
      refine lv_iconst (v := -1) hx hb dX4_setCoil_19 (by decide) ?_
      exact hret _ _ _ _ _ _ hf dX4_setCoil_20 hP hD hS
def fX4_setCapacitor (K : Nat) (p0 : Int32) (μ : MS) : Option (Int32 × MS) :=
  if (μ.1 3) = 0 then
    some ((-1 : Int32), μ)
  else
    b1 (fX4_isIn K p0.toInt64 (0 : Int64) (63 : Int64)) fun r_2 =>
    if r_2 = true then
      b1 (fX4_remember K μ) fun μ_5 =>
      ga (ix (1 : Int32) 254) <|
      nm (μ_5.2.2 0 (1 : Int32).toNatClampNeg) fun v_8 =>
      b1 (fX4_side K v_8) fun r_9 =>
      b1 (fX4_coil K v_8) fun r_11 =>
      b1 (fX4_together K r_9 r_11 p0) fun r_13 =>
      b1 (fX4_change K (1 : Int32) r_13 μ_5) fun μ_15 =>
      b1 (fX4_capacitor K v_8) fun r_17 =>
      some (r_17, μ_15)
    else
      some ((-1 : Int32), μ)
set_option maxHeartbeats 4000000 in
set_option maxRecDepth 100000 in
theorem tX4_setCapacitor (l : Launch) (D : va_G) (d : Nat → ClassId) (z : ZT) (o : Nat) (a : Nat → Nat) (K : Nat) (p0 : Int32) (μ : MS) (r : Int32) (μ' : MS) (hf : fX4_setCapacitor K p0 μ = some (r, μ')) : CI l yX4_setCapacitor (ws_ yX4_setCapacitor cX4_setCapacitor 3 (Option.some Jvm.ClassFile.FieldType.int)) (rmc 1 0 0 25) D d z [.ref o, .int p0] (MP d o a μ) r (MP d o a μ') := by
  refine mI_of rfl (by decide) (Nat.le_of_ble_eq_true rfl) ?_
  intro p e s m args below meth c A Q ls S hK hP hD hZ hS hA hl hret
  have hx := S.1
  have hb := S.2.1
  have hts := S.2.2.2.2
  have hl : lv_has ls 3 [(0, .ref o), (1, .int p0)] := hl
  unfold fX4_setCapacitor at hf
  refine lv_aload_n hx hb dX4_setCapacitor_0 rfl (lv_at hl 0 rfl) ?_
  refine m_get S hK hP 3 (by decide) q1603 rfl dX4_setCapacitor_1 ?_
  refine lv_if_eq (tgt := 19) hx hb dX4_setCapacitor_4 (by decide) (fun c_1 => ?_) (fun c_1 => ?_)
  · replace hf := it_t hf c_1
    clear c_1
    refine lv_iconst (v := -1) hx hb dX4_setCapacitor_19 (by decide) ?_
    exact hret _ _ _ _ _ _ hf dX4_setCapacitor_20 hP hD hS
  · replace hf := it_f hf c_1
    clear c_1
    refine lv_iload_n hx hb dX4_setCapacitor_7 rfl (lv_at hl 1 rfl) ?_
    refine lv_i2l (v := p0.toInt64) hx hb dX4_setCapacitor_8 rfl ?_
    refine lv_lconst (v := 0) hx hb dX4_setCapacitor_9 (by decide) ?_
    refine lv_ldc2 hx hb S.2.2.2.1 (hts _ q1950) dX4_setCapacitor_10 ?_
    obtain ⟨r_2, h_3, hf⟩ := b1_some hf
    refine si_call S (tX4_isIn l K p0.toInt64 (0 : Int64) (63 : Int64) _ h_3) (va_cwS 3 hts (lw_S q1754 q1755 q101 q1756) rfl rfl rfl (by decide +kernel) ⟨Nat.le_of_ble_eq_true rfl, Nat.le_of_ble_eq_true rfl⟩) rfl hl.1 rfl (Nat.le_of_ble_eq_true rfl) ⟨Nat.le_of_ble_eq_true rfl, Nat.le_of_ble_eq_true rfl⟩ dX4_setCapacitor_13 ?_
    clear h_3
    refine lv_if_ne (tgt := 21) hx hb dX4_setCapacitor_16 (by decide) (fun c_4 => ?_) (fun c_4 => ?_)
    · replace hf := it_t hf (bi_n0 c_4)
      clear c_4
      refine lv_aload_n hx hb dX4_setCapacitor_21 rfl (lv_at hl 0 rfl) ?_
      obtain ⟨μ_5, h_6, hf⟩ := b1_some hf
      refine cv_call S hK hP hD hZ hS hA (tX4_remember l D d z o a K μ _ h_6) (cwV 0 hts (lw_V q1922 q1924 qs73 q101 q1925) rfl rfl rfl (by decide +kernel) ⟨Nat.le_of_ble_eq_true rfl, Nat.le_of_ble_eq_true rfl⟩) (ci := 0) (q0 := 0) rfl rfl rfl hl.1 rfl (Nat.le_of_ble_eq_true rfl) ⟨Nat.le_of_ble_eq_true rfl, Nat.le_of_ble_eq_true rfl⟩ dX4_setCapacitor_22 ?_
      clear hP hD hS
      intro H locs hP hD hS
      clear h_6
      refine lv_aload_n hx hb dX4_setCapacitor_25 rfl (lv_at hl 0 rfl) ?_
      refine m_get S hK hP 0 (by decide) q1600 rfl dX4_setCapacitor_26 ?_
      refine lv_iconst (v := 1) hx hb dX4_setCapacitor_29 (by decide) ?_
      obtain ⟨g_7, hf⟩ := ga_some hf
      refine m_ild S hK hP 0 1 rfl g_7 dX4_setCapacitor_30 ?_
      clear g_7
      refine lv_topi (fun v_8 e_ => ?_)
      replace hf := nm_some hf v_8 e_
      clear e_
      refine lv_istore_n (lv' := [(2, .int v_8), (0, .ref o), (1, .int p0)]) hx hb dX4_setCapacitor_31 rfl hl (by decide) rfl (fun ls hl => ?_)
      refine lv_aload_n hx hb dX4_setCapacitor_32 rfl (lv_at hl 1 rfl) ?_
      refine lv_iconst (v := 1) hx hb dX4_setCapacitor_33 (by decide) ?_
      refine lv_iload_n hx hb dX4_setCapacitor_34 rfl (lv_at hl 0 rfl) ?_
      obtain ⟨r_9, h_10, hf⟩ := b1_some hf
      refine si_call S (tX4_side l K v_8 _ h_10) (va_cwS 1 hts (lw_S q1943 q1944 q101 q1945) rfl rfl rfl (by decide +kernel) ⟨Nat.le_of_ble_eq_true rfl, Nat.le_of_ble_eq_true rfl⟩) rfl hl.1 rfl (Nat.le_of_ble_eq_true rfl) ⟨Nat.le_of_ble_eq_true rfl, Nat.le_of_ble_eq_true rfl⟩ dX4_setCapacitor_35 ?_
      clear h_10
      refine lv_iload_n hx hb dX4_setCapacitor_38 rfl (lv_at hl 0 rfl) ?_
      obtain ⟨r_11, h_12, hf⟩ := b1_some hf
      refine si_call S (tX4_coil l K v_8 _ h_12) (va_cwS 1 hts (lw_S q1934 q1935 q101 q1936) rfl rfl rfl (by decide +kernel) ⟨Nat.le_of_ble_eq_true rfl, Nat.le_of_ble_eq_true rfl⟩) rfl hl.1 rfl (Nat.le_of_ble_eq_true rfl) ⟨Nat.le_of_ble_eq_true rfl, Nat.le_of_ble_eq_true rfl⟩ dX4_setCapacitor_39 ?_
      clear h_12
      refine lv_iload_n hx hb dX4_setCapacitor_42 rfl (lv_at hl 2 rfl) ?_
      obtain ⟨r_13, h_14, hf⟩ := b1_some hf
      refine si_call S (tX4_together l K r_9 r_11 p0 _ h_14) (va_cwS 3 hts (lw_S q1940 q1941 q101 q1942) rfl rfl rfl (by decide +kernel) ⟨Nat.le_of_ble_eq_true rfl, Nat.le_of_ble_eq_true rfl⟩) rfl hl.1 rfl (Nat.le_of_ble_eq_true rfl) ⟨Nat.le_of_ble_eq_true rfl, Nat.le_of_ble_eq_true rfl⟩ dX4_setCapacitor_43 ?_
      clear h_14
      obtain ⟨μ_15, h_16, hf⟩ := b1_some hf
      refine cv_call S hK hP hD hZ hS hA (tX4_change l D d z o a K (1 : Int32) r_13 μ_5 _ h_16) (cwV 2 hts (lw_V q1926 q1928 qs74 q101 q1929) rfl rfl rfl (by decide +kernel) ⟨Nat.le_of_ble_eq_true rfl, Nat.le_of_ble_eq_true rfl⟩) (ci := 0) (q0 := 0) rfl rfl rfl hl.1 rfl (Nat.le_of_ble_eq_true rfl) ⟨Nat.le_of_ble_eq_true rfl, Nat.le_of_ble_eq_true rfl⟩ dX4_setCapacitor_46 ?_
      clear hP hD hS
      intro H locs hP hD hS
      clear h_16
      refine lv_iload_n hx hb dX4_setCapacitor_49 rfl (lv_at hl 0 rfl) ?_
      obtain ⟨r_17, h_18, hf⟩ := b1_some hf
      refine si_call S (tX4_capacitor l K v_8 _ h_18) (va_cwS 1 hts (lw_S q1937 q1938 q101 q1939) rfl rfl rfl (by decide +kernel) ⟨Nat.le_of_ble_eq_true rfl, Nat.le_of_ble_eq_true rfl⟩) rfl hl.1 rfl (Nat.le_of_ble_eq_true rfl) ⟨Nat.le_of_ble_eq_true rfl, Nat.le_of_ble_eq_true rfl⟩ dX4_setCapacitor_50 ?_
      clear h_18
      exact hret _ _ _ _ _ _ hf dX4_setCapacitor_53 hP hD hS
    · replace hf := it_f hf (bi_e0 c_4)
      clear c_4
      refine lv_iconst (v := -1) hx hb dX4_setCapacitor_19 (by decide) ?_
      exact hret _ _ _ _ _ _ hf dX4_setCapacitor_20 hP hD hS
def fX4_frequency (K : Nat) (μ : MS) : Option (Int32 × MS) :=
  if (μ.1 3) = 0 then
    some ((-1 : Int32), μ)
  else
    ga (ix (0 : Int32) 254) <|
    some (μ.2.2 0 (0 : Int32).toNatClampNeg, μ)
set_option maxHeartbeats 4000000 in
set_option maxRecDepth 100000 in
theorem tX4_frequency (l : Launch) (D : va_G) (d : Nat → ClassId) (z : ZT) (o : Nat) (a : Nat → Nat) (K : Nat) (μ : MS) (r : Int32) (μ' : MS) (hf : fX4_frequency K μ = some (r, μ')) : CI l yX4_frequency (ws_ yX4_frequency cX4_frequency 1 (Option.some Jvm.ClassFile.FieldType.int)) (rmc 0 0 0 0) D d z [.ref o] (MP d o a μ) r (MP d o a μ') := by
  refine mI_of rfl (by decide) (Nat.le_of_ble_eq_true rfl) ?_
  intro p e s m args below meth c A Q ls S hK hP hD hZ hS hA hl hret
  have hx := S.1
  have hb := S.2.1
  have hts := S.2.2.2.2
  have hl : lv_has ls 1 [(0, .ref o)] := hl
  unfold fX4_frequency at hf
  refine lv_aload_n hx hb dX4_frequency_0 rfl (lv_at hl 0 rfl) ?_
  refine m_get S hK hP 3 (by decide) q1603 rfl dX4_frequency_1 ?_
  refine lv_if_eq (tgt := 16) hx hb dX4_frequency_4 (by decide) (fun c_1 => ?_) (fun c_1 => ?_)
  · replace hf := it_t hf c_1
    clear c_1
    refine lv_iconst (v := -1) hx hb dX4_frequency_16 (by decide) ?_
    exact hret _ _ _ _ _ _ hf dX4_frequency_17 hP hD hS
  · replace hf := it_f hf c_1
    clear c_1
    refine lv_aload_n hx hb dX4_frequency_7 rfl (lv_at hl 0 rfl) ?_
    refine m_get S hK hP 0 (by decide) q1600 rfl dX4_frequency_8 ?_
    refine lv_iconst (v := 0) hx hb dX4_frequency_11 (by decide) ?_
    obtain ⟨g_2, hf⟩ := ga_some hf
    refine m_ild S hK hP 0 1 rfl g_2 dX4_frequency_12 ?_
    clear g_2
    refine lv_goto (tgt := 17) hx hb dX4_frequency_13 (by decide) ?_
    exact hret _ _ _ _ _ _ hf dX4_frequency_17 hP hD hS
def fX4_settings (K : Nat) (μ : MS) : Option (Int32 × MS) :=
  if (μ.1 3) = 0 then
    some ((-1 : Int32), μ)
  else
    ga (ix (1 : Int32) 254) <|
    some (μ.2.2 0 (1 : Int32).toNatClampNeg, μ)
set_option maxHeartbeats 4000000 in
set_option maxRecDepth 100000 in
theorem tX4_settings (l : Launch) (D : va_G) (d : Nat → ClassId) (z : ZT) (o : Nat) (a : Nat → Nat) (K : Nat) (μ : MS) (r : Int32) (μ' : MS) (hf : fX4_settings K μ = some (r, μ')) : CI l yX4_settings (ws_ yX4_settings cX4_settings 1 (Option.some Jvm.ClassFile.FieldType.int)) (rmc 0 0 0 0) D d z [.ref o] (MP d o a μ) r (MP d o a μ') := by
  refine mI_of rfl (by decide) (Nat.le_of_ble_eq_true rfl) ?_
  intro p e s m args below meth c A Q ls S hK hP hD hZ hS hA hl hret
  have hx := S.1
  have hb := S.2.1
  have hts := S.2.2.2.2
  have hl : lv_has ls 1 [(0, .ref o)] := hl
  unfold fX4_settings at hf
  refine lv_aload_n hx hb dX4_settings_0 rfl (lv_at hl 0 rfl) ?_
  refine m_get S hK hP 3 (by decide) q1603 rfl dX4_settings_1 ?_
  refine lv_if_eq (tgt := 16) hx hb dX4_settings_4 (by decide) (fun c_1 => ?_) (fun c_1 => ?_)
  · replace hf := it_t hf c_1
    clear c_1
    refine lv_iconst (v := -1) hx hb dX4_settings_16 (by decide) ?_
    exact hret _ _ _ _ _ _ hf dX4_settings_17 hP hD hS
  · replace hf := it_f hf c_1
    clear c_1
    refine lv_aload_n hx hb dX4_settings_7 rfl (lv_at hl 0 rfl) ?_
    refine m_get S hK hP 0 (by decide) q1600 rfl dX4_settings_8 ?_
    refine lv_iconst (v := 1) hx hb dX4_settings_11 (by decide) ?_
    obtain ⟨g_2, hf⟩ := ga_some hf
    refine m_ild S hK hP 0 1 rfl g_2 dX4_settings_12 ?_
    clear g_2
    refine lv_goto (tgt := 17) hx hb dX4_settings_13 (by decide) ?_
    exact hret _ _ _ _ _ _ hf dX4_settings_17 hP hD hS
def fX4_relaysTo_L39 (K : Nat) : Nat → Int32 → Int32 → Int32 → MS → Option (Int32 × MS)
  | 0, _, _, _, _ => none
  | n + 1, x39_4, x39_5, x39_6, μ39 =>
    if (13 : Int32) ≤ x39_6 then
      some (x39_5, μ39)
    else
      nm (x39_5 + ((x39_4 >>> (x39_6 &&& 31)) &&& (1 : Int32))) fun v_10 =>
      fX4_relaysTo_L39 K n x39_4 v_10 (x39_6 + (1 : Int32)) μ39
def fX4_relaysTo (K : Nat) (p0 : Int32) (p1 : Int32) (p2 : Int32) (μ : MS) : Option (Int32 × MS) :=
  if (μ.1 3) = 0 then
    some ((-1 : Int32), μ)
  else
    b1 (fX4_areSettings K p0 p1 p2) fun r_2 =>
    if r_2 = true then
      b1 (fX4_together K p0 p1 p2) fun r_5 =>
      ga (ix (1 : Int32) 254) <|
      nm (r_5 ^^^ (μ.2.2 0 (1 : Int32).toNatClampNeg)) fun v_8 =>
      fX4_relaysTo_L39 K K v_8 (0 : Int32) (0 : Int32) μ
    else
      some ((-1 : Int32), μ)
set_option maxHeartbeats 4000000 in
set_option maxRecDepth 100000 in
theorem tX4_relaysTo (l : Launch) (D : va_G) (d : Nat → ClassId) (z : ZT) (o : Nat) (a : Nat → Nat) (K : Nat) (p0 : Int32) (p1 : Int32) (p2 : Int32) (μ : MS) (r : Int32) (μ' : MS) (hf : fX4_relaysTo K p0 p1 p2 μ = some (r, μ')) : CI l yX4_relaysTo (ws_ yX4_relaysTo cX4_relaysTo 7 (Option.some Jvm.ClassFile.FieldType.int)) (rmc 2 0 0 47) D d z [.ref o, .int p0, .int p1, .int p2] (MP d o a μ) r (MP d o a μ') := by
  refine mI_of rfl (by decide) (Nat.le_of_ble_eq_true rfl) ?_
  intro p e s m args below meth c A Q ls S hK hP hD hZ hS hA hl hret
  have hx := S.1
  have hb := S.2.1
  have hts := S.2.2.2.2
  have hl : lv_has ls 7 [(0, .ref o), (1, .int p0), (2, .int p1), (3, .int p2)] := hl
  have L39 : ∀ (n : Nat) (x39_4 : Int32) (x39_5 : Int32) (x39_6 : Int32) (μ39 : MS) (H : Heap) (locs : List Loc) (ls : Array Slot), fX4_relaysTo_L39 K n x39_4 x39_5 x39_6 μ39 = some (r, μ') → va_P D CL (MP d o a μ39) H → va_D A (MP d o a μ39) → va_S A s.heap H locs → lv_has ls 7 [(4, .int x39_4), (5, .int x39_5), (6, .int x39_6)] → W p l e (rmc 2 0 0 47) s m args below meth c H locs 0 0 Q (F0 m 39 ls []) := by
    intro n
    induction n with
    | zero =>
      intro x39_4 x39_5 x39_6 μ39 H locs ls hf hP hD hS hl
      rw [fX4_relaysTo_L39] at hf
      cases hf
    | succ n ih =>
      intro x39_4 x39_5 x39_6 μ39 H locs ls hf hP hD hS hl
      rw [fX4_relaysTo_L39] at hf
      refine lv_iload hx hb dX4_relaysTo_39 (lv_at hl 2 rfl) ?_
      refine lv_bipush (v := 13) hx hb dX4_relaysTo_41 (by decide) ?_
      refine lv_icmp_ge (tgt := 64) hx hb dX4_relaysTo_43 (by decide) (fun c_9 => ?_) (fun c_9 => ?_)
      · replace hf := it_t hf c_9
        clear c_9
        refine lv_iload hx hb dX4_relaysTo_64 (lv_at hl 1 rfl) ?_
        exact hret _ _ _ _ _ _ hf dX4_relaysTo_66 hP hD hS
      · replace hf := it_f hf c_9
        clear c_9
        refine lv_iload hx hb dX4_relaysTo_46 (lv_at hl 1 rfl) ?_
        refine lv_iload hx hb dX4_relaysTo_48 (lv_at hl 0 rfl) ?_
        refine lv_iload hx hb dX4_relaysTo_50 (lv_at hl 2 rfl) ?_
        refine lv_ishr hx hb dX4_relaysTo_52 ?_
        refine lv_iconst (v := 1) hx hb dX4_relaysTo_53 (by decide) ?_
        refine lv_iand hx hb dX4_relaysTo_54 ?_
        refine lv_iadd hx hb dX4_relaysTo_55 ?_
        refine lv_topi (fun v_10 e_ => ?_)
        replace hf := nm_some hf v_10 e_
        clear e_
        refine lv_istore (lv' := [(5, .int v_10), (4, .int x39_4), (6, .int x39_6)]) hx hb dX4_relaysTo_56 hl (by decide) rfl (fun ls hl => ?_)
        refine lv_iinc (v := x39_6 + (1 : Int32)) (lv' := [(6, .int (x39_6 + (1 : Int32))), (5, .int v_10), (4, .int x39_4)]) hx hb dX4_relaysTo_58 hl (k := 2) rfl rfl (by decide) rfl (fun ls hl => ?_)
        refine lv_goto (tgt := 39) hx hb dX4_relaysTo_61 (by decide) ?_
        exact ih x39_4 v_10 (x39_6 + (1 : Int32)) μ39 _ _ _ hf hP hD hS (lv_sub hl [2, 1, 0] rfl)
  unfold fX4_relaysTo at hf
  refine lv_aload_n hx hb dX4_relaysTo_0 rfl (lv_at hl 0 rfl) ?_
  refine m_get S hK hP 3 (by decide) q1603 rfl dX4_relaysTo_1 ?_
  refine lv_if_eq (tgt := 16) hx hb dX4_relaysTo_4 (by decide) (fun c_1 => ?_) (fun c_1 => ?_)
  · replace hf := it_t hf c_1
    clear c_1
    refine lv_iconst (v := -1) hx hb dX4_relaysTo_16 (by decide) ?_
    exact hret _ _ _ _ _ _ hf dX4_relaysTo_17 hP hD hS
  · replace hf := it_f hf c_1
    clear c_1
    refine lv_iload_n hx hb dX4_relaysTo_7 rfl (lv_at hl 1 rfl) ?_
    refine lv_iload_n hx hb dX4_relaysTo_8 rfl (lv_at hl 2 rfl) ?_
    refine lv_iload_n hx hb dX4_relaysTo_9 rfl (lv_at hl 3 rfl) ?_
    obtain ⟨r_2, h_3, hf⟩ := b1_some hf
    refine si_call S (tX4_areSettings l K p0 p1 p2 _ h_3) (va_cwS 3 hts (lw_S q1967 q1968 q101 q1969) rfl rfl rfl (by decide +kernel) ⟨Nat.le_of_ble_eq_true rfl, Nat.le_of_ble_eq_true rfl⟩) rfl hl.1 rfl (Nat.le_of_ble_eq_true rfl) ⟨Nat.le_of_ble_eq_true rfl, Nat.le_of_ble_eq_true rfl⟩ dX4_relaysTo_10 ?_
    clear h_3
    refine lv_if_ne (tgt := 18) hx hb dX4_relaysTo_13 (by decide) (fun c_4 => ?_) (fun c_4 => ?_)
    · replace hf := it_t hf (bi_n0 c_4)
      clear c_4
      refine lv_iload_n hx hb dX4_relaysTo_18 rfl (lv_at hl 1 rfl) ?_
      refine lv_iload_n hx hb dX4_relaysTo_19 rfl (lv_at hl 2 rfl) ?_
      refine lv_iload_n hx hb dX4_relaysTo_20 rfl (lv_at hl 3 rfl) ?_
      obtain ⟨r_5, h_6, hf⟩ := b1_some hf
      refine si_call S (tX4_together l K p0 p1 p2 _ h_6) (va_cwS 3 hts (lw_S q1940 q1941 q101 q1942) rfl rfl rfl (by decide +kernel) ⟨Nat.le_of_ble_eq_true rfl, Nat.le_of_ble_eq_true rfl⟩) rfl hl.1 rfl (Nat.le_of_ble_eq_true rfl) ⟨Nat.le_of_ble_eq_true rfl, Nat.le_of_ble_eq_true rfl⟩ dX4_relaysTo_21 ?_
      clear h_6
      refine lv_aload_n hx hb dX4_relaysTo_24 rfl (lv_at hl 0 rfl) ?_
      refine m_get S hK hP 0 (by decide) q1600 rfl dX4_relaysTo_25 ?_
      refine lv_iconst (v := 1) hx hb dX4_relaysTo_28 (by decide) ?_
      obtain ⟨g_7, hf⟩ := ga_some hf
      refine m_ild S hK hP 0 1 rfl g_7 dX4_relaysTo_29 ?_
      clear g_7
      refine lv_ixor hx hb dX4_relaysTo_30 ?_
      refine lv_topi (fun v_8 e_ => ?_)
      replace hf := nm_some hf v_8 e_
      clear e_
      refine lv_istore (lv' := [(4, .int v_8), (0, .ref o), (1, .int p0), (2, .int p1), (3, .int p2)]) hx hb dX4_relaysTo_31 hl (by decide) rfl (fun ls hl => ?_)
      refine lv_iconst (v := 0) hx hb dX4_relaysTo_33 (by decide) ?_
      refine lv_istore (lv' := [(5, .int (0 : Int32)), (4, .int v_8), (0, .ref o), (1, .int p0), (2, .int p1), (3, .int p2)]) hx hb dX4_relaysTo_34 hl (by decide) rfl (fun ls hl => ?_)
      refine lv_iconst (v := 0) hx hb dX4_relaysTo_36 (by decide) ?_
      refine lv_istore (lv' := [(6, .int (0 : Int32)), (5, .int (0 : Int32)), (4, .int v_8), (0, .ref o), (1, .int p0), (2, .int p1), (3, .int p2)]) hx hb dX4_relaysTo_37 hl (by decide) rfl (fun ls hl => ?_)
      exact L39 K v_8 (0 : Int32) (0 : Int32) μ _ _ _ hf hP hD hS (lv_sub hl [2, 1, 0] rfl)
    · replace hf := it_f hf (bi_e0 c_4)
      clear c_4
      refine lv_iconst (v := -1) hx hb dX4_relaysTo_16 (by decide) ?_
      exact hret _ _ _ _ _ _ hf dX4_relaysTo_17 hP hD hS
def fX4_addCoil (K : Nat) (p0 : Int32) (p1 : Int32) (μ : MS) : Option MS :=
  b1 (fX4_coil K p0) fun r_1 =>
  nm (((((6283 : Int64) * p1.toInt64) * ((μ.1 4).toInt64)) * r_1.toInt64) / (1000000 : Int64)) fun v_3 =>
  ga (¬ ((μ.1 5).toInt64) = 0) <|
  nm (sJ μ 38 (v_3 / ((μ.1 5).toInt64))) fun μ_5 =>
  nm (sJ μ_5 34 ((μ_5.2.1 34) + (μ_5.2.1 38))) fun μ_6 =>
  nm (sJ μ_6 35 ((μ_6.2.1 35) + v_3)) fun μ_7 =>
  some μ_7
set_option maxHeartbeats 4000000 in
set_option maxRecDepth 100000 in
theorem tX4_addCoil (l : Launch) (D : va_G) (d : Nat → ClassId) (z : ZT) (o : Nat) (a : Nat → Nat) (K : Nat) (p0 : Int32) (p1 : Int32) (μ : MS) (μ' : MS) (hf : fX4_addCoil K p0 p1 μ = some μ') : CV l yX4_addCoil (ws_ yX4_addCoil cX4_addCoil 5 (Option.none : Option Jvm.ClassFile.FieldType)) (rmc 1 0 0 20) D d z [.ref o, .int p0, .int p1] (MP d o a μ) (MP d o a μ') := by
  refine mV_of rfl (by decide) (Nat.le_of_ble_eq_true rfl) ?_
  intro p e s m args below meth c A Q ls S hK hP hD hZ hS hA hl hret
  have hx := S.1
  have hb := S.2.1
  have hts := S.2.2.2.2
  have hl : lv_has ls 5 [(0, .ref o), (1, .int p0), (2, .int p1)] := hl
  unfold fX4_addCoil at hf
  refine lv_ldc2 hx hb S.2.2.2.1 (hts _ q1983) dX4_addCoil_0 ?_
  refine lv_iload_n hx hb dX4_addCoil_3 rfl (lv_at hl 2 rfl) ?_
  refine lv_i2l (v := p1.toInt64) hx hb dX4_addCoil_4 rfl ?_
  refine lv_lmul hx hb dX4_addCoil_5 ?_
  refine lv_aload_n hx hb dX4_addCoil_6 rfl (lv_at hl 0 rfl) ?_
  refine m_get S hK hP 4 (by decide) q1604 rfl dX4_addCoil_7 ?_
  refine lv_i2l (v := (μ.1 4).toInt64) hx hb dX4_addCoil_10 rfl ?_
  refine lv_lmul hx hb dX4_addCoil_11 ?_
  refine lv_iload_n hx hb dX4_addCoil_12 rfl (lv_at hl 1 rfl) ?_
  obtain ⟨r_1, h_2, hf⟩ := b1_some hf
  refine si_call S (tX4_coil l K p0 _ h_2) (va_cwS 1 hts (lw_S q1934 q1935 q101 q1936) rfl rfl rfl (by decide +kernel) ⟨Nat.le_of_ble_eq_true rfl, Nat.le_of_ble_eq_true rfl⟩) rfl hl.1 rfl (Nat.le_of_ble_eq_true rfl) ⟨Nat.le_of_ble_eq_true rfl, Nat.le_of_ble_eq_true rfl⟩ dX4_addCoil_13 ?_
  clear h_2
  refine lv_i2l (v := r_1.toInt64) hx hb dX4_addCoil_16 rfl ?_
  refine lv_lmul hx hb dX4_addCoil_17 ?_
  refine lv_ldc2 hx hb S.2.2.2.1 (hts _ q1994) dX4_addCoil_18 ?_
  refine lv_ldiv hx hb dX4_addCoil_21 (by decide) ?_
  refine lv_topl (fun v_3 e_ => ?_)
  replace hf := nm_some hf v_3 e_
  clear e_
  refine lv_lstore_n (lv' := [(3, .long v_3), (0, .ref o), (1, .int p0), (2, .int p1)]) hx hb dX4_addCoil_22 rfl hl (by decide) rfl (fun ls hl => ?_)
  refine lv_aload_n hx hb dX4_addCoil_23 rfl (lv_at hl 1 rfl) ?_
  refine lv_lload_n hx hb dX4_addCoil_24 rfl (lv_at hl 0 rfl) ?_
  refine lv_aload_n hx hb dX4_addCoil_25 rfl (lv_at hl 1 rfl) ?_
  refine m_get S hK hP 5 (by decide) q1605 rfl dX4_addCoil_26 ?_
  refine lv_i2l (v := (μ.1 5).toInt64) hx hb dX4_addCoil_29 rfl ?_
  obtain ⟨g_4, hf⟩ := ga_some hf
  refine lv_ldiv hx hb dX4_addCoil_30 g_4 ?_
  refine m_putJ S hK hP hD hS 38 (by decide) q1638 rfl rfl rfl dX4_addCoil_31 ?_
  clear hP hD hS
  intro μ_5 e_ H locs hP hD hS
  replace hf := nm_some hf μ_5 e_
  clear e_
  refine lv_aload_n hx hb dX4_addCoil_34 rfl (lv_at hl 1 rfl) ?_
  refine lv_dup hx hb dX4_addCoil_35 rfl ?_
  refine m_get S hK hP 34 (by decide) q1634 rfl dX4_addCoil_36 ?_
  refine lv_aload_n hx hb dX4_addCoil_39 rfl (lv_at hl 1 rfl) ?_
  refine m_get S hK hP 38 (by decide) q1638 rfl dX4_addCoil_40 ?_
  refine lv_ladd hx hb dX4_addCoil_43 ?_
  refine m_putJ S hK hP hD hS 34 (by decide) q1634 rfl rfl rfl dX4_addCoil_44 ?_
  clear hP hD hS
  intro μ_6 e_ H locs hP hD hS
  replace hf := nm_some hf μ_6 e_
  clear e_
  refine lv_aload_n hx hb dX4_addCoil_47 rfl (lv_at hl 1 rfl) ?_
  refine lv_dup hx hb dX4_addCoil_48 rfl ?_
  refine m_get S hK hP 35 (by decide) q1635 rfl dX4_addCoil_49 ?_
  refine lv_lload_n hx hb dX4_addCoil_52 rfl (lv_at hl 0 rfl) ?_
  refine lv_ladd hx hb dX4_addCoil_53 ?_
  refine m_putJ S hK hP hD hS 35 (by decide) q1635 rfl rfl rfl dX4_addCoil_54 ?_
  clear hP hD hS
  intro μ_7 e_ H locs hP hD hS
  replace hf := nm_some hf μ_7 e_
  clear e_
  exact hret _ _ _ _ _ hf dX4_addCoil_57 hP hD hS
def fX4_addCapacitor (K : Nat) (p0 : Int32) (p1 : Int32) (μ : MS) : Option MS :=
  nm (((μ.2.1 34) * (μ.2.1 34)) + ((μ.2.1 35) * (μ.2.1 35))) fun v_1 =>
  ga (¬ v_1 = 0) <|
  nm (((μ.2.1 34) * (10000000000 : Int64)) / v_1) fun v_3 =>
  ga (¬ v_1 = 0) <|
  b1 (fX4_capacitor K p0) fun r_5 =>
  nm ((((-(μ.2.1 35)) * (10000000000 : Int64)) / v_1) + (((((6283 : Int64) * p1.toInt64) * ((μ.1 6).toInt64)) * r_5.toInt64) / (100000 : Int64))) fun v_7 =>
  nm ((v_3 * v_3) + (v_7 * v_7)) fun v_8 =>
  if v_8 = (0 : Int64) then
    nm (sJ μ 34 (1000000000 : Int64)) fun μ_18 =>
    nm (sJ μ_18 35 (0 : Int64)) fun μ_19 =>
    some μ_19
  else
    ga (¬ v_8 = 0) <|
    b1 (fX4_clamp K ((v_3 * (10000000000 : Int64)) / v_8) (-1000000000 : Int64) (1000000000 : Int64)) fun r_11 =>
    nm (sJ μ 34 r_11) fun μ_13 =>
    ga (¬ v_8 = 0) <|
    b1 (fX4_clamp K (((-v_7) * (10000000000 : Int64)) / v_8) (-1000000000 : Int64) (1000000000 : Int64)) fun r_15 =>
    nm (sJ μ_13 35 r_15) fun μ_17 =>
    some μ_17
set_option maxHeartbeats 4000000 in
set_option maxRecDepth 100000 in
theorem tX4_addCapacitor (l : Launch) (D : va_G) (d : Nat → ClassId) (z : ZT) (o : Nat) (a : Nat → Nat) (K : Nat) (p0 : Int32) (p1 : Int32) (μ : MS) (μ' : MS) (hf : fX4_addCapacitor K p0 p1 μ = some μ') : CV l yX4_addCapacitor (ws_ yX4_addCapacitor cX4_addCapacitor 11 (Option.none : Option Jvm.ClassFile.FieldType)) (rmc 1 0 0 25) D d z [.ref o, .int p0, .int p1] (MP d o a μ) (MP d o a μ') := by
  refine mV_of rfl (by decide) (Nat.le_of_ble_eq_true rfl) ?_
  intro p e s m args below meth c A Q ls S hK hP hD hZ hS hA hl hret
  have hx := S.1
  have hb := S.2.1
  have hts := S.2.2.2.2
  have hl : lv_has ls 11 [(0, .ref o), (1, .int p0), (2, .int p1)] := hl
  unfold fX4_addCapacitor at hf
  refine lv_aload_n hx hb dX4_addCapacitor_0 rfl (lv_at hl 0 rfl) ?_
  refine m_get S hK hP 34 (by decide) q1634 rfl dX4_addCapacitor_1 ?_
  refine lv_aload_n hx hb dX4_addCapacitor_4 rfl (lv_at hl 0 rfl) ?_
  refine m_get S hK hP 34 (by decide) q1634 rfl dX4_addCapacitor_5 ?_
  refine lv_lmul hx hb dX4_addCapacitor_8 ?_
  refine lv_aload_n hx hb dX4_addCapacitor_9 rfl (lv_at hl 0 rfl) ?_
  refine m_get S hK hP 35 (by decide) q1635 rfl dX4_addCapacitor_10 ?_
  refine lv_aload_n hx hb dX4_addCapacitor_13 rfl (lv_at hl 0 rfl) ?_
  refine m_get S hK hP 35 (by decide) q1635 rfl dX4_addCapacitor_14 ?_
  refine lv_lmul hx hb dX4_addCapacitor_17 ?_
  refine lv_ladd hx hb dX4_addCapacitor_18 ?_
  refine lv_topl (fun v_1 e_ => ?_)
  replace hf := nm_some hf v_1 e_
  clear e_
  refine lv_lstore_n (lv' := [(3, .long v_1), (0, .ref o), (1, .int p0), (2, .int p1)]) hx hb dX4_addCapacitor_19 rfl hl (by decide) rfl (fun ls hl => ?_)
  refine lv_aload_n hx hb dX4_addCapacitor_20 rfl (lv_at hl 1 rfl) ?_
  refine m_get S hK hP 34 (by decide) q1634 rfl dX4_addCapacitor_21 ?_
  refine lv_ldc2 hx hb S.2.2.2.1 (hts _ q1982) dX4_addCapacitor_24 ?_
  refine lv_lmul hx hb dX4_addCapacitor_27 ?_
  refine lv_lload_n hx hb dX4_addCapacitor_28 rfl (lv_at hl 0 rfl) ?_
  obtain ⟨g_2, hf⟩ := ga_some hf
  refine lv_ldiv hx hb dX4_addCapacitor_29 g_2 ?_
  refine lv_topl (fun v_3 e_ => ?_)
  replace hf := nm_some hf v_3 e_
  clear e_
  refine lv_lstore (lv' := [(5, .long v_3), (3, .long v_1), (0, .ref o), (1, .int p0), (2, .int p1)]) hx hb dX4_addCapacitor_30 hl (by decide) rfl (fun ls hl => ?_)
  refine lv_aload_n hx hb dX4_addCapacitor_32 rfl (lv_at hl 2 rfl) ?_
  refine m_get S hK hP 35 (by decide) q1635 rfl dX4_addCapacitor_33 ?_
  refine lv_lneg hx hb dX4_addCapacitor_36 ?_
  refine lv_ldc2 hx hb S.2.2.2.1 (hts _ q1982) dX4_addCapacitor_37 ?_
  refine lv_lmul hx hb dX4_addCapacitor_40 ?_
  refine lv_lload_n hx hb dX4_addCapacitor_41 rfl (lv_at hl 1 rfl) ?_
  obtain ⟨g_4, hf⟩ := ga_some hf
  refine lv_ldiv hx hb dX4_addCapacitor_42 g_4 ?_
  refine lv_ldc2 hx hb S.2.2.2.1 (hts _ q1983) dX4_addCapacitor_43 ?_
  refine lv_iload_n hx hb dX4_addCapacitor_46 rfl (lv_at hl 4 rfl) ?_
  refine lv_i2l (v := p1.toInt64) hx hb dX4_addCapacitor_47 rfl ?_
  refine lv_lmul hx hb dX4_addCapacitor_48 ?_
  refine lv_aload_n hx hb dX4_addCapacitor_49 rfl (lv_at hl 2 rfl) ?_
  refine m_get S hK hP 6 (by decide) q1606 rfl dX4_addCapacitor_50 ?_
  refine lv_i2l (v := (μ.1 6).toInt64) hx hb dX4_addCapacitor_53 rfl ?_
  refine lv_lmul hx hb dX4_addCapacitor_54 ?_
  refine lv_iload_n hx hb dX4_addCapacitor_55 rfl (lv_at hl 3 rfl) ?_
  obtain ⟨r_5, h_6, hf⟩ := b1_some hf
  refine si_call S (tX4_capacitor l K p0 _ h_6) (va_cwS 1 hts (lw_S q1937 q1938 q101 q1939) rfl rfl rfl (by decide +kernel) ⟨Nat.le_of_ble_eq_true rfl, Nat.le_of_ble_eq_true rfl⟩) rfl hl.1 rfl (Nat.le_of_ble_eq_true rfl) ⟨Nat.le_of_ble_eq_true rfl, Nat.le_of_ble_eq_true rfl⟩ dX4_addCapacitor_56 ?_
  clear h_6
  refine lv_i2l (v := r_5.toInt64) hx hb dX4_addCapacitor_59 rfl ?_
  refine lv_lmul hx hb dX4_addCapacitor_60 ?_
  refine lv_ldc2 hx hb S.2.2.2.1 (hts _ q1984) dX4_addCapacitor_61 ?_
  refine lv_ldiv hx hb dX4_addCapacitor_64 (by decide) ?_
  refine lv_ladd hx hb dX4_addCapacitor_65 ?_
  refine lv_topl (fun v_7 e_ => ?_)
  replace hf := nm_some hf v_7 e_
  clear e_
  refine lv_lstore (lv' := [(7, .long v_7), (5, .long v_3), (3, .long v_1), (0, .ref o), (1, .int p0), (2, .int p1)]) hx hb dX4_addCapacitor_66 hl (by decide) rfl (fun ls hl => ?_)
  refine lv_lload hx hb dX4_addCapacitor_68 (lv_at hl 1 rfl) ?_
  refine lv_lload hx hb dX4_addCapacitor_70 (lv_at hl 1 rfl) ?_
  refine lv_lmul hx hb dX4_addCapacitor_72 ?_
  refine lv_lload hx hb dX4_addCapacitor_73 (lv_at hl 0 rfl) ?_
  refine lv_lload hx hb dX4_addCapacitor_75 (lv_at hl 0 rfl) ?_
  refine lv_lmul hx hb dX4_addCapacitor_77 ?_
  refine lv_ladd hx hb dX4_addCapacitor_78 ?_
  refine lv_topl (fun v_8 e_ => ?_)
  replace hf := nm_some hf v_8 e_
  clear e_
  refine lv_lstore (lv' := [(9, .long v_8), (7, .long v_7), (5, .long v_3), (3, .long v_1), (0, .ref o), (1, .int p0), (2, .int p1)]) hx hb dX4_addCapacitor_79 hl (by decide) rfl (fun ls hl => ?_)
  refine lv_lload hx hb dX4_addCapacitor_81 (lv_at hl 0 rfl) ?_
  refine lv_lconst (v := 0) hx hb dX4_addCapacitor_83 (by decide) ?_
  refine g_lcmp_ne (tgt := 101) hx hb dX4_addCapacitor_84 dX4_addCapacitor_85 (by decide) (fun c_9 => ?_) (fun c_9 => ?_)
  · replace hf := it_f hf c_9
    clear c_9
    refine lv_aload_n hx hb dX4_addCapacitor_101 rfl (lv_at hl 4 rfl) ?_
    refine lv_lload hx hb dX4_addCapacitor_102 (lv_at hl 2 rfl) ?_
    refine lv_ldc2 hx hb S.2.2.2.1 (hts _ q1982) dX4_addCapacitor_104 ?_
    refine lv_lmul hx hb dX4_addCapacitor_107 ?_
    refine lv_lload hx hb dX4_addCapacitor_108 (lv_at hl 0 rfl) ?_
    obtain ⟨g_10, hf⟩ := ga_some hf
    refine lv_ldiv hx hb dX4_addCapacitor_110 g_10 ?_
    refine lv_ldc2 hx hb S.2.2.2.1 (hts _ q1986) dX4_addCapacitor_111 ?_
    refine lv_ldc2 hx hb S.2.2.2.1 (hts _ q1985) dX4_addCapacitor_114 ?_
    obtain ⟨r_11, h_12, hf⟩ := b1_some hf
    refine sj_call S (tX4_clamp l K ((v_3 * (10000000000 : Int64)) / v_8) (-1000000000 : Int64) (1000000000 : Int64) _ h_12) (va_cwS 3 hts (lw_S q1987 q1988 q101 q1989) rfl rfl rfl (by decide +kernel) ⟨Nat.le_of_ble_eq_true rfl, Nat.le_of_ble_eq_true rfl⟩) rfl hl.1 rfl (Nat.le_of_ble_eq_true rfl) ⟨Nat.le_of_ble_eq_true rfl, Nat.le_of_ble_eq_true rfl⟩ dX4_addCapacitor_117 ?_
    clear h_12
    refine m_putJ S hK hP hD hS 34 (by decide) q1634 rfl rfl rfl dX4_addCapacitor_120 ?_
    clear hP hD hS
    intro μ_13 e_ H locs hP hD hS
    replace hf := nm_some hf μ_13 e_
    clear e_
    refine lv_aload_n hx hb dX4_addCapacitor_123 rfl (lv_at hl 4 rfl) ?_
    refine lv_lload hx hb dX4_addCapacitor_124 (lv_at hl 1 rfl) ?_
    refine lv_lneg hx hb dX4_addCapacitor_126 ?_
    refine lv_ldc2 hx hb S.2.2.2.1 (hts _ q1982) dX4_addCapacitor_127 ?_
    refine lv_lmul hx hb dX4_addCapacitor_130 ?_
    refine lv_lload hx hb dX4_addCapacitor_131 (lv_at hl 0 rfl) ?_
    obtain ⟨g_14, hf⟩ := ga_some hf
    refine lv_ldiv hx hb dX4_addCapacitor_133 g_14 ?_
    refine lv_ldc2 hx hb S.2.2.2.1 (hts _ q1986) dX4_addCapacitor_134 ?_
    refine lv_ldc2 hx hb S.2.2.2.1 (hts _ q1985) dX4_addCapacitor_137 ?_
    obtain ⟨r_15, h_16, hf⟩ := b1_some hf
    refine sj_call S (tX4_clamp l K (((-v_7) * (10000000000 : Int64)) / v_8) (-1000000000 : Int64) (1000000000 : Int64) _ h_16) (va_cwS 3 hts (lw_S q1987 q1988 q101 q1989) rfl rfl rfl (by decide +kernel) ⟨Nat.le_of_ble_eq_true rfl, Nat.le_of_ble_eq_true rfl⟩) rfl hl.1 rfl (Nat.le_of_ble_eq_true rfl) ⟨Nat.le_of_ble_eq_true rfl, Nat.le_of_ble_eq_true rfl⟩ dX4_addCapacitor_140 ?_
    clear h_16
    refine m_putJ S hK hP hD hS 35 (by decide) q1635 rfl rfl rfl dX4_addCapacitor_143 ?_
    clear hP hD hS
    intro μ_17 e_ H locs hP hD hS
    replace hf := nm_some hf μ_17 e_
    clear e_
    exact hret _ _ _ _ _ hf dX4_addCapacitor_146 hP hD hS
  · replace hf := it_t hf c_9
    clear c_9
    refine lv_aload_n hx hb dX4_addCapacitor_88 rfl (lv_at hl 4 rfl) ?_
    refine lv_ldc2 hx hb S.2.2.2.1 (hts _ q1985) dX4_addCapacitor_89 ?_
    refine m_putJ S hK hP hD hS 34 (by decide) q1634 rfl rfl rfl dX4_addCapacitor_92 ?_
    clear hP hD hS
    intro μ_18 e_ H locs hP hD hS
    replace hf := nm_some hf μ_18 e_
    clear e_
    refine lv_aload_n hx hb dX4_addCapacitor_95 rfl (lv_at hl 4 rfl) ?_
    refine lv_lconst (v := 0) hx hb dX4_addCapacitor_96 (by decide) ?_
    refine m_putJ S hK hP hD hS 35 (by decide) q1635 rfl rfl rfl dX4_addCapacitor_97 ?_
    clear hP hD hS
    intro μ_19 e_ H locs hP hD hS
    replace hf := nm_some hf μ_19 e_
    clear e_
    exact hret _ _ _ _ _ hf dX4_addCapacitor_100 hP hD hS
def fX4_work (K : Nat) (p0 : Int32) (p1 : Int32) (μ : MS) : Option MS :=
  b2 (fX4_resistanceAt K p1 μ) fun r_3 μ_1 =>
  nm (sJ μ_1 34 r_3) fun μ_4 =>
  b2 (fX4_reactanceAt K p1 μ_4) fun r_7 μ_5 =>
  nm (sJ μ_5 35 r_7) fun μ_8 =>
  b1 (fX4_side K p0) fun r_9 =>
  if r_9 = 0 then
    b1 (fX4_addCapacitor K p0 p1 μ_8) fun μ_18 =>
    nm (sJ μ_18 36 (μ_18.2.1 34)) fun μ_20 =>
    nm (sJ μ_20 37 (μ_20.2.1 35)) fun μ_21 =>
    b1 (fX4_addCoil K p0 p1 μ_21) fun μ_22 =>
    some μ_22
  else
    nm (sJ μ_8 36 (μ_8.2.1 34)) fun μ_12 =>
    nm (sJ μ_12 37 (μ_12.2.1 35)) fun μ_13 =>
    b1 (fX4_addCoil K p0 p1 μ_13) fun μ_14 =>
    b1 (fX4_addCapacitor K p0 p1 μ_14) fun μ_16 =>
    some μ_16
set_option maxHeartbeats 4000000 in
set_option maxRecDepth 100000 in
theorem tX4_work (l : Launch) (D : va_G) (d : Nat → ClassId) (z : ZT) (o : Nat) (a : Nat → Nat) (K : Nat) (p0 : Int32) (p1 : Int32) (μ : MS) (μ' : MS) (hf : fX4_work K p0 p1 μ = some μ') : CV l yX4_work (ws_ yX4_work cX4_work 3 (Option.none : Option Jvm.ClassFile.FieldType)) (rmc 2 0 0 55) D d z [.ref o, .int p0, .int p1] (MP d o a μ) (MP d o a μ') := by
  refine mV_of rfl (by decide) (Nat.le_of_ble_eq_true rfl) ?_
  intro p e s m args below meth c A Q ls S hK hP hD hZ hS hA hl hret
  have hx := S.1
  have hb := S.2.1
  have hts := S.2.2.2.2
  have hl : lv_has ls 3 [(0, .ref o), (1, .int p0), (2, .int p1)] := hl
  unfold fX4_work at hf
  refine lv_aload_n hx hb dX4_work_0 rfl (lv_at hl 0 rfl) ?_
  refine lv_aload_n hx hb dX4_work_1 rfl (lv_at hl 0 rfl) ?_
  refine lv_iload_n hx hb dX4_work_2 rfl (lv_at hl 2 rfl) ?_
  obtain ⟨r_3, μ_1, h_2, hf⟩ := b2_some hf
  refine cj_call S hK hP hD hZ hS hA (tX4_resistanceAt l D d z o a K p1 μ _ _ h_2) (cwV 1 hts (lw_V q1875 q1877 qs67 q101 q1878) rfl rfl rfl (by decide +kernel) ⟨Nat.le_of_ble_eq_true rfl, Nat.le_of_ble_eq_true rfl⟩) (ci := 0) (q0 := 0) rfl rfl rfl hl.1 rfl (Nat.le_of_ble_eq_true rfl) ⟨Nat.le_of_ble_eq_true rfl, Nat.le_of_ble_eq_true rfl⟩ dX4_work_3 ?_
  clear hP hD hS
  intro H locs hP hD hS
  clear h_2
  refine m_putJ S hK hP hD hS 34 (by decide) q1634 rfl rfl rfl dX4_work_6 ?_
  clear hP hD hS
  intro μ_4 e_ H locs hP hD hS
  replace hf := nm_some hf μ_4 e_
  clear e_
  refine lv_aload_n hx hb dX4_work_9 rfl (lv_at hl 0 rfl) ?_
  refine lv_aload_n hx hb dX4_work_10 rfl (lv_at hl 0 rfl) ?_
  refine lv_iload_n hx hb dX4_work_11 rfl (lv_at hl 2 rfl) ?_
  obtain ⟨r_7, μ_5, h_6, hf⟩ := b2_some hf
  refine cj_call S hK hP hD hZ hS hA (tX4_reactanceAt l D d z o a K p1 μ_4 _ _ h_6) (cwV 1 hts (lw_V q1892 q1894 qs70 q101 q1895) rfl rfl rfl (by decide +kernel) ⟨Nat.le_of_ble_eq_true rfl, Nat.le_of_ble_eq_true rfl⟩) (ci := 0) (q0 := 0) rfl rfl rfl hl.1 rfl (Nat.le_of_ble_eq_true rfl) ⟨Nat.le_of_ble_eq_true rfl, Nat.le_of_ble_eq_true rfl⟩ dX4_work_12 ?_
  clear hP hD hS
  intro H locs hP hD hS
  clear h_6
  refine m_putJ S hK hP hD hS 35 (by decide) q1635 rfl rfl rfl dX4_work_15 ?_
  clear hP hD hS
  intro μ_8 e_ H locs hP hD hS
  replace hf := nm_some hf μ_8 e_
  clear e_
  refine lv_iload_n hx hb dX4_work_18 rfl (lv_at hl 1 rfl) ?_
  obtain ⟨r_9, h_10, hf⟩ := b1_some hf
  refine si_call S (tX4_side l K p0 _ h_10) (va_cwS 1 hts (lw_S q1943 q1944 q101 q1945) rfl rfl rfl (by decide +kernel) ⟨Nat.le_of_ble_eq_true rfl, Nat.le_of_ble_eq_true rfl⟩) rfl hl.1 rfl (Nat.le_of_ble_eq_true rfl) ⟨Nat.le_of_ble_eq_true rfl, Nat.le_of_ble_eq_true rfl⟩ dX4_work_19 ?_
  clear h_10
  refine lv_if_ne (tgt := 56) hx hb dX4_work_22 (by decide) (fun c_11 => ?_) (fun c_11 => ?_)
  · replace hf := it_f hf c_11
    clear c_11
    refine lv_aload_n hx hb dX4_work_56 rfl (lv_at hl 0 rfl) ?_
    refine lv_aload_n hx hb dX4_work_57 rfl (lv_at hl 0 rfl) ?_
    refine m_get S hK hP 34 (by decide) q1634 rfl dX4_work_58 ?_
    refine m_putJ S hK hP hD hS 36 (by decide) q1636 rfl rfl rfl dX4_work_61 ?_
    clear hP hD hS
    intro μ_12 e_ H locs hP hD hS
    replace hf := nm_some hf μ_12 e_
    clear e_
    refine lv_aload_n hx hb dX4_work_64 rfl (lv_at hl 0 rfl) ?_
    refine lv_aload_n hx hb dX4_work_65 rfl (lv_at hl 0 rfl) ?_
    refine m_get S hK hP 35 (by decide) q1635 rfl dX4_work_66 ?_
    refine m_putJ S hK hP hD hS 37 (by decide) q1637 rfl rfl rfl dX4_work_69 ?_
    clear hP hD hS
    intro μ_13 e_ H locs hP hD hS
    replace hf := nm_some hf μ_13 e_
    clear e_
    refine lv_aload_n hx hb dX4_work_72 rfl (lv_at hl 0 rfl) ?_
    refine lv_iload_n hx hb dX4_work_73 rfl (lv_at hl 1 rfl) ?_
    refine lv_iload_n hx hb dX4_work_74 rfl (lv_at hl 2 rfl) ?_
    obtain ⟨μ_14, h_15, hf⟩ := b1_some hf
    refine cv_call S hK hP hD hZ hS hA (tX4_addCoil l D d z o a K p0 p1 μ_13 _ h_15) (cwV 2 hts (lw_V q1990 q1992 qs77 q101 q1993) rfl rfl rfl (by decide +kernel) ⟨Nat.le_of_ble_eq_true rfl, Nat.le_of_ble_eq_true rfl⟩) (ci := 0) (q0 := 0) rfl rfl rfl hl.1 rfl (Nat.le_of_ble_eq_true rfl) ⟨Nat.le_of_ble_eq_true rfl, Nat.le_of_ble_eq_true rfl⟩ dX4_work_75 ?_
    clear hP hD hS
    intro H locs hP hD hS
    clear h_15
    refine lv_aload_n hx hb dX4_work_78 rfl (lv_at hl 0 rfl) ?_
    refine lv_iload_n hx hb dX4_work_79 rfl (lv_at hl 1 rfl) ?_
    refine lv_iload_n hx hb dX4_work_80 rfl (lv_at hl 2 rfl) ?_
    obtain ⟨μ_16, h_17, hf⟩ := b1_some hf
    refine cv_call S hK hP hD hZ hS hA (tX4_addCapacitor l D d z o a K p0 p1 μ_14 _ h_17) (cwV 2 hts (lw_V q1978 q1980 qs76 q101 q1981) rfl rfl rfl (by decide +kernel) ⟨Nat.le_of_ble_eq_true rfl, Nat.le_of_ble_eq_true rfl⟩) (ci := 0) (q0 := 0) rfl rfl rfl hl.1 rfl (Nat.le_of_ble_eq_true rfl) ⟨Nat.le_of_ble_eq_true rfl, Nat.le_of_ble_eq_true rfl⟩ dX4_work_81 ?_
    clear hP hD hS
    intro H locs hP hD hS
    clear h_17
    exact hret _ _ _ _ _ hf dX4_work_84 hP hD hS
  · replace hf := it_t hf c_11
    clear c_11
    refine lv_aload_n hx hb dX4_work_25 rfl (lv_at hl 0 rfl) ?_
    refine lv_iload_n hx hb dX4_work_26 rfl (lv_at hl 1 rfl) ?_
    refine lv_iload_n hx hb dX4_work_27 rfl (lv_at hl 2 rfl) ?_
    obtain ⟨μ_18, h_19, hf⟩ := b1_some hf
    refine cv_call S hK hP hD hZ hS hA (tX4_addCapacitor l D d z o a K p0 p1 μ_8 _ h_19) (cwV 2 hts (lw_V q1978 q1980 qs76 q101 q1981) rfl rfl rfl (by decide +kernel) ⟨Nat.le_of_ble_eq_true rfl, Nat.le_of_ble_eq_true rfl⟩) (ci := 0) (q0 := 0) rfl rfl rfl hl.1 rfl (Nat.le_of_ble_eq_true rfl) ⟨Nat.le_of_ble_eq_true rfl, Nat.le_of_ble_eq_true rfl⟩ dX4_work_28 ?_
    clear hP hD hS
    intro H locs hP hD hS
    clear h_19
    refine lv_aload_n hx hb dX4_work_31 rfl (lv_at hl 0 rfl) ?_
    refine lv_aload_n hx hb dX4_work_32 rfl (lv_at hl 0 rfl) ?_
    refine m_get S hK hP 34 (by decide) q1634 rfl dX4_work_33 ?_
    refine m_putJ S hK hP hD hS 36 (by decide) q1636 rfl rfl rfl dX4_work_36 ?_
    clear hP hD hS
    intro μ_20 e_ H locs hP hD hS
    replace hf := nm_some hf μ_20 e_
    clear e_
    refine lv_aload_n hx hb dX4_work_39 rfl (lv_at hl 0 rfl) ?_
    refine lv_aload_n hx hb dX4_work_40 rfl (lv_at hl 0 rfl) ?_
    refine m_get S hK hP 35 (by decide) q1635 rfl dX4_work_41 ?_
    refine m_putJ S hK hP hD hS 37 (by decide) q1637 rfl rfl rfl dX4_work_44 ?_
    clear hP hD hS
    intro μ_21 e_ H locs hP hD hS
    replace hf := nm_some hf μ_21 e_
    clear e_
    refine lv_aload_n hx hb dX4_work_47 rfl (lv_at hl 0 rfl) ?_
    refine lv_iload_n hx hb dX4_work_48 rfl (lv_at hl 1 rfl) ?_
    refine lv_iload_n hx hb dX4_work_49 rfl (lv_at hl 2 rfl) ?_
    obtain ⟨μ_22, h_23, hf⟩ := b1_some hf
    refine cv_call S hK hP hD hZ hS hA (tX4_addCoil l D d z o a K p0 p1 μ_21 _ h_23) (cwV 2 hts (lw_V q1990 q1992 qs77 q101 q1993) rfl rfl rfl (by decide +kernel) ⟨Nat.le_of_ble_eq_true rfl, Nat.le_of_ble_eq_true rfl⟩) (ci := 0) (q0 := 0) rfl rfl rfl hl.1 rfl (Nat.le_of_ble_eq_true rfl) ⟨Nat.le_of_ble_eq_true rfl, Nat.le_of_ble_eq_true rfl⟩ dX4_work_50 ?_
    clear hP hD hS
    intro H locs hP hD hS
    clear h_23
    refine lv_goto (tgt := 84) hx hb dX4_work_53 (by decide) ?_
    exact hret _ _ _ _ _ hf dX4_work_84 hP hD hS
def fX4_inputResistance (K : Nat) (μ : MS) : Option (Int64 × MS) :=
  if (μ.1 3) = 0 then
    some ((-9223372036854775808 : Int64), μ)
  else
    ga (ix (1 : Int32) 254) <|
    ga (ix (0 : Int32) 254) <|
    b1 (fX4_work K (μ.2.2 0 (1 : Int32).toNatClampNeg) (μ.2.2 0 (0 : Int32).toNatClampNeg) μ) fun μ_4 =>
    some (μ_4.2.1 34, μ_4)
set_option maxHeartbeats 4000000 in
set_option maxRecDepth 100000 in
theorem tX4_inputResistance (l : Launch) (D : va_G) (d : Nat → ClassId) (z : ZT) (o : Nat) (a : Nat → Nat) (K : Nat) (μ : MS) (r : Int64) (μ' : MS) (hf : fX4_inputResistance K μ = some (r, μ')) : CJ l yX4_inputResistance (ws_ yX4_inputResistance cX4_inputResistance 1 (Option.some Jvm.ClassFile.FieldType.long)) (rmc 3 0 0 77) D d z [.ref o] (MP d o a μ) r (MP d o a μ') := by
  refine mJ_of rfl (by decide) (Nat.le_of_ble_eq_true rfl) ?_
  intro p e s m args below meth c A Q ls S hK hP hD hZ hS hA hl hret
  have hx := S.1
  have hb := S.2.1
  have hts := S.2.2.2.2
  have hl : lv_has ls 1 [(0, .ref o)] := hl
  unfold fX4_inputResistance at hf
  refine lv_aload_n hx hb dX4_inputResistance_0 rfl (lv_at hl 0 rfl) ?_
  refine m_get S hK hP 3 (by decide) q1603 rfl dX4_inputResistance_1 ?_
  refine lv_if_ne (tgt := 11) hx hb dX4_inputResistance_4 (by decide) (fun c_1 => ?_) (fun c_1 => ?_)
  · replace hf := it_f hf c_1
    clear c_1
    refine lv_aload_n hx hb dX4_inputResistance_11 rfl (lv_at hl 0 rfl) ?_
    refine lv_aload_n hx hb dX4_inputResistance_12 rfl (lv_at hl 0 rfl) ?_
    refine m_get S hK hP 0 (by decide) q1600 rfl dX4_inputResistance_13 ?_
    refine lv_iconst (v := 1) hx hb dX4_inputResistance_16 (by decide) ?_
    obtain ⟨g_2, hf⟩ := ga_some hf
    refine m_ild S hK hP 0 1 rfl g_2 dX4_inputResistance_17 ?_
    clear g_2
    refine lv_aload_n hx hb dX4_inputResistance_18 rfl (lv_at hl 0 rfl) ?_
    refine m_get S hK hP 0 (by decide) q1600 rfl dX4_inputResistance_19 ?_
    refine lv_iconst (v := 0) hx hb dX4_inputResistance_22 (by decide) ?_
    obtain ⟨g_3, hf⟩ := ga_some hf
    refine m_ild S hK hP 0 1 rfl g_3 dX4_inputResistance_23 ?_
    clear g_3
    obtain ⟨μ_4, h_5, hf⟩ := b1_some hf
    refine cv_call S hK hP hD hZ hS hA (tX4_work l D d z o a K (μ.2.2 0 (1 : Int32).toNatClampNeg) (μ.2.2 0 (0 : Int32).toNatClampNeg) μ _ h_5) (cwV 2 hts (lw_V q1974 q1976 qs75 q101 q1977) rfl rfl rfl (by decide +kernel) ⟨Nat.le_of_ble_eq_true rfl, Nat.le_of_ble_eq_true rfl⟩) (ci := 0) (q0 := 0) rfl rfl rfl hl.1 rfl (Nat.le_of_ble_eq_true rfl) ⟨Nat.le_of_ble_eq_true rfl, Nat.le_of_ble_eq_true rfl⟩ dX4_inputResistance_24 ?_
    clear hP hD hS
    intro H locs hP hD hS
    clear h_5
    refine lv_aload_n hx hb dX4_inputResistance_27 rfl (lv_at hl 0 rfl) ?_
    refine m_get S hK hP 34 (by decide) q1634 rfl dX4_inputResistance_28 ?_
    exact hret _ _ _ _ _ _ hf dX4_inputResistance_31 hP hD hS
  · replace hf := it_t hf c_1
    clear c_1
    refine lv_ldc2 hx hb S.2.2.2.1 (hts _ q1896) dX4_inputResistance_7 ?_
    exact hret _ _ _ _ _ _ hf dX4_inputResistance_10 hP hD hS
def fX4_inputReactance (K : Nat) (μ : MS) : Option (Int64 × MS) :=
  if (μ.1 3) = 0 then
    some ((-9223372036854775808 : Int64), μ)
  else
    ga (ix (1 : Int32) 254) <|
    ga (ix (0 : Int32) 254) <|
    b1 (fX4_work K (μ.2.2 0 (1 : Int32).toNatClampNeg) (μ.2.2 0 (0 : Int32).toNatClampNeg) μ) fun μ_4 =>
    some (μ_4.2.1 35, μ_4)
set_option maxHeartbeats 4000000 in
set_option maxRecDepth 100000 in
theorem tX4_inputReactance (l : Launch) (D : va_G) (d : Nat → ClassId) (z : ZT) (o : Nat) (a : Nat → Nat) (K : Nat) (μ : MS) (r : Int64) (μ' : MS) (hf : fX4_inputReactance K μ = some (r, μ')) : CJ l yX4_inputReactance (ws_ yX4_inputReactance cX4_inputReactance 1 (Option.some Jvm.ClassFile.FieldType.long)) (rmc 3 0 0 77) D d z [.ref o] (MP d o a μ) r (MP d o a μ') := by
  refine mJ_of rfl (by decide) (Nat.le_of_ble_eq_true rfl) ?_
  intro p e s m args below meth c A Q ls S hK hP hD hZ hS hA hl hret
  have hx := S.1
  have hb := S.2.1
  have hts := S.2.2.2.2
  have hl : lv_has ls 1 [(0, .ref o)] := hl
  unfold fX4_inputReactance at hf
  refine lv_aload_n hx hb dX4_inputReactance_0 rfl (lv_at hl 0 rfl) ?_
  refine m_get S hK hP 3 (by decide) q1603 rfl dX4_inputReactance_1 ?_
  refine lv_if_ne (tgt := 11) hx hb dX4_inputReactance_4 (by decide) (fun c_1 => ?_) (fun c_1 => ?_)
  · replace hf := it_f hf c_1
    clear c_1
    refine lv_aload_n hx hb dX4_inputReactance_11 rfl (lv_at hl 0 rfl) ?_
    refine lv_aload_n hx hb dX4_inputReactance_12 rfl (lv_at hl 0 rfl) ?_
    refine m_get S hK hP 0 (by decide) q1600 rfl dX4_inputReactance_13 ?_
    refine lv_iconst (v := 1) hx hb dX4_inputReactance_16 (by decide) ?_
    obtain ⟨g_2, hf⟩ := ga_some hf
    refine m_ild S hK hP 0 1 rfl g_2 dX4_inputReactance_17 ?_
    clear g_2
    refine lv_aload_n hx hb dX4_inputReactance_18 rfl (lv_at hl 0 rfl) ?_
    refine m_get S hK hP 0 (by decide) q1600 rfl dX4_inputReactance_19 ?_
    refine lv_iconst (v := 0) hx hb dX4_inputReactance_22 (by decide) ?_
    obtain ⟨g_3, hf⟩ := ga_some hf
    refine m_ild S hK hP 0 1 rfl g_3 dX4_inputReactance_23 ?_
    clear g_3
    obtain ⟨μ_4, h_5, hf⟩ := b1_some hf
    refine cv_call S hK hP hD hZ hS hA (tX4_work l D d z o a K (μ.2.2 0 (1 : Int32).toNatClampNeg) (μ.2.2 0 (0 : Int32).toNatClampNeg) μ _ h_5) (cwV 2 hts (lw_V q1974 q1976 qs75 q101 q1977) rfl rfl rfl (by decide +kernel) ⟨Nat.le_of_ble_eq_true rfl, Nat.le_of_ble_eq_true rfl⟩) (ci := 0) (q0 := 0) rfl rfl rfl hl.1 rfl (Nat.le_of_ble_eq_true rfl) ⟨Nat.le_of_ble_eq_true rfl, Nat.le_of_ble_eq_true rfl⟩ dX4_inputReactance_24 ?_
    clear hP hD hS
    intro H locs hP hD hS
    clear h_5
    refine lv_aload_n hx hb dX4_inputReactance_27 rfl (lv_at hl 0 rfl) ?_
    refine m_get S hK hP 35 (by decide) q1635 rfl dX4_inputReactance_28 ?_
    exact hret _ _ _ _ _ _ hf dX4_inputReactance_31 hP hD hS
  · replace hf := it_t hf c_1
    clear c_1
    refine lv_ldc2 hx hb S.2.2.2.1 (hts _ q1896) dX4_inputReactance_7 ?_
    exact hret _ _ _ _ _ _ hf dX4_inputReactance_10 hP hD hS
def fX4_ratio (K : Nat) (p0 : Int32) (p1 : Int32) (μ : MS) : Option (Int32 × MS) :=
  b1 (fX4_work K p0 p1 μ) fun μ_1 =>
  b1 (fX4_root K ((((μ_1.2.1 34) - (50000 : Int64)) * ((μ_1.2.1 34) - (50000 : Int64))) + ((μ_1.2.1 35) * (μ_1.2.1 35)))) fun r_3 =>
  b1 (fX4_root K ((((μ_1.2.1 34) + (50000 : Int64)) * ((μ_1.2.1 34) + (50000 : Int64))) + ((μ_1.2.1 35) * (μ_1.2.1 35)))) fun r_5 =>
  if r_3 < r_5 then
    ga (¬ (r_5 - r_3) = 0) <|
    b1 (fX4_clamp K (((100 : Int64) * (r_5 + r_3)) / (r_5 - r_3)) (0 : Int64) (99999 : Int64)) fun r_9 =>
    some (r_9.toInt32, μ_1)
  else
    some ((99999 : Int32), μ_1)
set_option maxHeartbeats 4000000 in
set_option maxRecDepth 100000 in
theorem tX4_ratio (l : Launch) (D : va_G) (d : Nat → ClassId) (z : ZT) (o : Nat) (a : Nat → Nat) (K : Nat) (p0 : Int32) (p1 : Int32) (μ : MS) (r : Int32) (μ' : MS) (hf : fX4_ratio K p0 p1 μ = some (r, μ')) : CI l yX4_ratio (ws_ yX4_ratio cX4_ratio 7 (Option.some Jvm.ClassFile.FieldType.int)) (rmc 3 0 0 77) D d z [.ref o, .int p0, .int p1] (MP d o a μ) r (MP d o a μ') := by
  refine mI_of rfl (by decide) (Nat.le_of_ble_eq_true rfl) ?_
  intro p e s m args below meth c A Q ls S hK hP hD hZ hS hA hl hret
  have hx := S.1
  have hb := S.2.1
  have hts := S.2.2.2.2
  have hl : lv_has ls 7 [(0, .ref o), (1, .int p0), (2, .int p1)] := hl
  unfold fX4_ratio at hf
  refine lv_aload_n hx hb dX4_ratio_0 rfl (lv_at hl 0 rfl) ?_
  refine lv_iload_n hx hb dX4_ratio_1 rfl (lv_at hl 1 rfl) ?_
  refine lv_iload_n hx hb dX4_ratio_2 rfl (lv_at hl 2 rfl) ?_
  obtain ⟨μ_1, h_2, hf⟩ := b1_some hf
  refine cv_call S hK hP hD hZ hS hA (tX4_work l D d z o a K p0 p1 μ _ h_2) (cwV 2 hts (lw_V q1974 q1976 qs75 q101 q1977) rfl rfl rfl (by decide +kernel) ⟨Nat.le_of_ble_eq_true rfl, Nat.le_of_ble_eq_true rfl⟩) (ci := 0) (q0 := 0) rfl rfl rfl hl.1 rfl (Nat.le_of_ble_eq_true rfl) ⟨Nat.le_of_ble_eq_true rfl, Nat.le_of_ble_eq_true rfl⟩ dX4_ratio_3 ?_
  clear hP hD hS
  intro H locs hP hD hS
  clear h_2
  refine lv_aload_n hx hb dX4_ratio_6 rfl (lv_at hl 0 rfl) ?_
  refine m_get S hK hP 34 (by decide) q1634 rfl dX4_ratio_7 ?_
  refine lv_ldc2 hx hb S.2.2.2.1 (hts _ q2011) dX4_ratio_10 ?_
  refine lv_lsub hx hb dX4_ratio_13 ?_
  refine lv_aload_n hx hb dX4_ratio_14 rfl (lv_at hl 0 rfl) ?_
  refine m_get S hK hP 34 (by decide) q1634 rfl dX4_ratio_15 ?_
  refine lv_ldc2 hx hb S.2.2.2.1 (hts _ q2011) dX4_ratio_18 ?_
  refine lv_lsub hx hb dX4_ratio_21 ?_
  refine lv_lmul hx hb dX4_ratio_22 ?_
  refine lv_aload_n hx hb dX4_ratio_23 rfl (lv_at hl 0 rfl) ?_
  refine m_get S hK hP 35 (by decide) q1635 rfl dX4_ratio_24 ?_
  refine lv_aload_n hx hb dX4_ratio_27 rfl (lv_at hl 0 rfl) ?_
  refine m_get S hK hP 35 (by decide) q1635 rfl dX4_ratio_28 ?_
  refine lv_lmul hx hb dX4_ratio_31 ?_
  refine lv_ladd hx hb dX4_ratio_32 ?_
  obtain ⟨r_3, h_4, hf⟩ := b1_some hf
  refine sj_call S (tX4_root l K ((((μ_1.2.1 34) - (50000 : Int64)) * ((μ_1.2.1 34) - (50000 : Int64))) + ((μ_1.2.1 35) * (μ_1.2.1 35))) _ h_4) (va_cwS 1 hts (lw_S q2012 q2013 q101 q2014) rfl rfl rfl (by decide +kernel) ⟨Nat.le_of_ble_eq_true rfl, Nat.le_of_ble_eq_true rfl⟩) rfl hl.1 rfl (Nat.le_of_ble_eq_true rfl) ⟨Nat.le_of_ble_eq_true rfl, Nat.le_of_ble_eq_true rfl⟩ dX4_ratio_33 ?_
  clear h_4
  refine lv_lstore_n (lv' := [(3, .long r_3), (0, .ref o), (1, .int p0), (2, .int p1)]) hx hb dX4_ratio_36 rfl hl (by decide) rfl (fun ls hl => ?_)
  refine lv_aload_n hx hb dX4_ratio_37 rfl (lv_at hl 1 rfl) ?_
  refine m_get S hK hP 34 (by decide) q1634 rfl dX4_ratio_38 ?_
  refine lv_ldc2 hx hb S.2.2.2.1 (hts _ q2011) dX4_ratio_41 ?_
  refine lv_ladd hx hb dX4_ratio_44 ?_
  refine lv_aload_n hx hb dX4_ratio_45 rfl (lv_at hl 1 rfl) ?_
  refine m_get S hK hP 34 (by decide) q1634 rfl dX4_ratio_46 ?_
  refine lv_ldc2 hx hb S.2.2.2.1 (hts _ q2011) dX4_ratio_49 ?_
  refine lv_ladd hx hb dX4_ratio_52 ?_
  refine lv_lmul hx hb dX4_ratio_53 ?_
  refine lv_aload_n hx hb dX4_ratio_54 rfl (lv_at hl 1 rfl) ?_
  refine m_get S hK hP 35 (by decide) q1635 rfl dX4_ratio_55 ?_
  refine lv_aload_n hx hb dX4_ratio_58 rfl (lv_at hl 1 rfl) ?_
  refine m_get S hK hP 35 (by decide) q1635 rfl dX4_ratio_59 ?_
  refine lv_lmul hx hb dX4_ratio_62 ?_
  refine lv_ladd hx hb dX4_ratio_63 ?_
  obtain ⟨r_5, h_6, hf⟩ := b1_some hf
  refine sj_call S (tX4_root l K ((((μ_1.2.1 34) + (50000 : Int64)) * ((μ_1.2.1 34) + (50000 : Int64))) + ((μ_1.2.1 35) * (μ_1.2.1 35))) _ h_6) (va_cwS 1 hts (lw_S q2012 q2013 q101 q2014) rfl rfl rfl (by decide +kernel) ⟨Nat.le_of_ble_eq_true rfl, Nat.le_of_ble_eq_true rfl⟩) rfl hl.1 rfl (Nat.le_of_ble_eq_true rfl) ⟨Nat.le_of_ble_eq_true rfl, Nat.le_of_ble_eq_true rfl⟩ dX4_ratio_64 ?_
  clear h_6
  refine lv_lstore (lv' := [(5, .long r_5), (3, .long r_3), (0, .ref o), (1, .int p0), (2, .int p1)]) hx hb dX4_ratio_67 hl (by decide) rfl (fun ls hl => ?_)
  refine lv_lload hx hb dX4_ratio_69 (lv_at hl 0 rfl) ?_
  refine lv_lload_n hx hb dX4_ratio_71 rfl (lv_at hl 1 rfl) ?_
  refine g_lcmp_gt (tgt := 80) hx hb dX4_ratio_72 dX4_ratio_73 (by decide) (fun c_7 => ?_) (fun c_7 => ?_)
  · replace hf := it_t hf c_7
    clear c_7
    refine lv_ldc2 hx hb S.2.2.2.1 (hts _ q1901) dX4_ratio_80 ?_
    refine lv_lload hx hb dX4_ratio_83 (lv_at hl 0 rfl) ?_
    refine lv_lload_n hx hb dX4_ratio_85 rfl (lv_at hl 1 rfl) ?_
    refine lv_ladd hx hb dX4_ratio_86 ?_
    refine lv_lmul hx hb dX4_ratio_87 ?_
    refine lv_lload hx hb dX4_ratio_88 (lv_at hl 0 rfl) ?_
    refine lv_lload_n hx hb dX4_ratio_90 rfl (lv_at hl 1 rfl) ?_
    refine lv_lsub hx hb dX4_ratio_91 ?_
    obtain ⟨g_8, hf⟩ := ga_some hf
    refine lv_ldiv hx hb dX4_ratio_92 g_8 ?_
    refine lv_lconst (v := 0) hx hb dX4_ratio_93 (by decide) ?_
    refine lv_ldc2 hx hb S.2.2.2.1 (hts _ q2018) dX4_ratio_94 ?_
    obtain ⟨r_9, h_10, hf⟩ := b1_some hf
    refine sj_call S (tX4_clamp l K (((100 : Int64) * (r_5 + r_3)) / (r_5 - r_3)) (0 : Int64) (99999 : Int64) _ h_10) (va_cwS 3 hts (lw_S q1987 q1988 q101 q1989) rfl rfl rfl (by decide +kernel) ⟨Nat.le_of_ble_eq_true rfl, Nat.le_of_ble_eq_true rfl⟩) rfl hl.1 rfl (Nat.le_of_ble_eq_true rfl) ⟨Nat.le_of_ble_eq_true rfl, Nat.le_of_ble_eq_true rfl⟩ dX4_ratio_97 ?_
    clear h_10
    refine lv_l2i (v := r_9.toInt32) hx hb dX4_ratio_100 rfl ?_
    exact hret _ _ _ _ _ _ hf dX4_ratio_101 hP hD hS
  · replace hf := it_f hf c_7
    clear c_7
    refine lv_ldcw hx hb S.2.2.2.1 (hts _ q2017) dX4_ratio_76 ?_
    exact hret _ _ _ _ _ _ hf dX4_ratio_79 hP hD hS
def fX4_present (K : Nat) (μ : MS) : Option (Int32 × MS) :=
  ga (ix (1 : Int32) 254) <|
  ga (ix (0 : Int32) 254) <|
  b2 (fX4_ratio K (μ.2.2 0 (1 : Int32).toNatClampNeg) (μ.2.2 0 (0 : Int32).toNatClampNeg) μ) fun r_5 μ_3 =>
  some (r_5, μ_3)
set_option maxHeartbeats 4000000 in
set_option maxRecDepth 100000 in
theorem tX4_present (l : Launch) (D : va_G) (d : Nat → ClassId) (z : ZT) (o : Nat) (a : Nat → Nat) (K : Nat) (μ : MS) (r : Int32) (μ' : MS) (hf : fX4_present K μ = some (r, μ')) : CI l yX4_present (ws_ yX4_present cX4_present 1 (Option.some Jvm.ClassFile.FieldType.int)) (rmc 4 0 0 103) D d z [.ref o] (MP d o a μ) r (MP d o a μ') := by
  refine mI_of rfl (by decide) (Nat.le_of_ble_eq_true rfl) ?_
  intro p e s m args below meth c A Q ls S hK hP hD hZ hS hA hl hret
  have hx := S.1
  have hb := S.2.1
  have hts := S.2.2.2.2
  have hl : lv_has ls 1 [(0, .ref o)] := hl
  unfold fX4_present at hf
  refine lv_aload_n hx hb dX4_present_0 rfl (lv_at hl 0 rfl) ?_
  refine lv_aload_n hx hb dX4_present_1 rfl (lv_at hl 0 rfl) ?_
  refine m_get S hK hP 0 (by decide) q1600 rfl dX4_present_2 ?_
  refine lv_iconst (v := 1) hx hb dX4_present_5 (by decide) ?_
  obtain ⟨g_1, hf⟩ := ga_some hf
  refine m_ild S hK hP 0 1 rfl g_1 dX4_present_6 ?_
  clear g_1
  refine lv_aload_n hx hb dX4_present_7 rfl (lv_at hl 0 rfl) ?_
  refine m_get S hK hP 0 (by decide) q1600 rfl dX4_present_8 ?_
  refine lv_iconst (v := 0) hx hb dX4_present_11 (by decide) ?_
  obtain ⟨g_2, hf⟩ := ga_some hf
  refine m_ild S hK hP 0 1 rfl g_2 dX4_present_12 ?_
  clear g_2
  obtain ⟨r_5, μ_3, h_4, hf⟩ := b2_some hf
  refine ci_call S hK hP hD hZ hS hA (tX4_ratio l D d z o a K (μ.2.2 0 (1 : Int32).toNatClampNeg) (μ.2.2 0 (0 : Int32).toNatClampNeg) μ _ _ h_4) (cwV 2 hts (lw_V q2007 q2009 qs79 q101 q2010) rfl rfl rfl (by decide +kernel) ⟨Nat.le_of_ble_eq_true rfl, Nat.le_of_ble_eq_true rfl⟩) (ci := 0) (q0 := 0) rfl rfl rfl hl.1 rfl (Nat.le_of_ble_eq_true rfl) ⟨Nat.le_of_ble_eq_true rfl, Nat.le_of_ble_eq_true rfl⟩ dX4_present_13 ?_
  clear hP hD hS
  intro H locs hP hD hS
  clear h_4
  exact hret _ _ _ _ _ _ hf dX4_present_16 hP hD hS
def fX4_swr (K : Nat) (μ : MS) : Option (Int32 × MS) :=
  if (μ.1 3) = 0 then
    some ((-1 : Int32), μ)
  else
    b2 (fX4_present K μ) fun r_4 μ_2 =>
    some (r_4, μ_2)
set_option maxHeartbeats 4000000 in
set_option maxRecDepth 100000 in
theorem tX4_swr (l : Launch) (D : va_G) (d : Nat → ClassId) (z : ZT) (o : Nat) (a : Nat → Nat) (K : Nat) (μ : MS) (r : Int32) (μ' : MS) (hf : fX4_swr K μ = some (r, μ')) : CI l yX4_swr (ws_ yX4_swr cX4_swr 1 (Option.some Jvm.ClassFile.FieldType.int)) (rmc 5 0 0 123) D d z [.ref o] (MP d o a μ) r (MP d o a μ') := by
  refine mI_of rfl (by decide) (Nat.le_of_ble_eq_true rfl) ?_
  intro p e s m args below meth c A Q ls S hK hP hD hZ hS hA hl hret
  have hx := S.1
  have hb := S.2.1
  have hts := S.2.2.2.2
  have hl : lv_has ls 1 [(0, .ref o)] := hl
  unfold fX4_swr at hf
  refine lv_aload_n hx hb dX4_swr_0 rfl (lv_at hl 0 rfl) ?_
  refine m_get S hK hP 3 (by decide) q1603 rfl dX4_swr_1 ?_
  refine lv_if_eq (tgt := 14) hx hb dX4_swr_4 (by decide) (fun c_1 => ?_) (fun c_1 => ?_)
  · replace hf := it_t hf c_1
    clear c_1
    refine lv_iconst (v := -1) hx hb dX4_swr_14 (by decide) ?_
    exact hret _ _ _ _ _ _ hf dX4_swr_15 hP hD hS
  · replace hf := it_f hf c_1
    clear c_1
    refine lv_aload_n hx hb dX4_swr_7 rfl (lv_at hl 0 rfl) ?_
    obtain ⟨r_4, μ_2, h_3, hf⟩ := b2_some hf
    refine ci_call S hK hP hD hZ hS hA (tX4_present l D d z o a K μ _ _ h_3) (cwV 0 hts (lw_V q2003 q2005 qs78 q101 q2006) rfl rfl rfl (by decide +kernel) ⟨Nat.le_of_ble_eq_true rfl, Nat.le_of_ble_eq_true rfl⟩) (ci := 0) (q0 := 0) rfl rfl rfl hl.1 rfl (Nat.le_of_ble_eq_true rfl) ⟨Nat.le_of_ble_eq_true rfl, Nat.le_of_ble_eq_true rfl⟩ dX4_swr_8 ?_
    clear hP hD hS
    intro H locs hP hD hS
    clear h_3
    refine lv_goto (tgt := 15) hx hb dX4_swr_11 (by decide) ?_
    exact hret _ _ _ _ _ _ hf dX4_swr_15 hP hD hS
def fX4_swrAt (K : Nat) (p0 : Int32) (μ : MS) : Option (Int32 × MS) :=
  if (μ.1 3) = 0 then
    some ((-1 : Int32), μ)
  else
    b1 (fX4_isFrequency K p0) fun r_2 =>
    if r_2 = true then
      ga (ix (1 : Int32) 254) <|
      b2 (fX4_ratio K (μ.2.2 0 (1 : Int32).toNatClampNeg) p0 μ) fun r_8 μ_6 =>
      some (r_8, μ_6)
    else
      some ((-1 : Int32), μ)
set_option maxHeartbeats 4000000 in
set_option maxRecDepth 100000 in
theorem tX4_swrAt (l : Launch) (D : va_G) (d : Nat → ClassId) (z : ZT) (o : Nat) (a : Nat → Nat) (K : Nat) (p0 : Int32) (μ : MS) (r : Int32) (μ' : MS) (hf : fX4_swrAt K p0 μ = some (r, μ')) : CI l yX4_swrAt (ws_ yX4_swrAt cX4_swrAt 2 (Option.some Jvm.ClassFile.FieldType.int)) (rmc 4 0 0 103) D d z [.ref o, .int p0] (MP d o a μ) r (MP d o a μ') := by
  refine mI_of rfl (by decide) (Nat.le_of_ble_eq_true rfl) ?_
  intro p e s m args below meth c A Q ls S hK hP hD hZ hS hA hl hret
  have hx := S.1
  have hb := S.2.1
  have hts := S.2.2.2.2
  have hl : lv_has ls 2 [(0, .ref o), (1, .int p0)] := hl
  unfold fX4_swrAt at hf
  refine lv_aload_n hx hb dX4_swrAt_0 rfl (lv_at hl 0 rfl) ?_
  refine m_get S hK hP 3 (by decide) q1603 rfl dX4_swrAt_1 ?_
  refine lv_if_eq (tgt := 28) hx hb dX4_swrAt_4 (by decide) (fun c_1 => ?_) (fun c_1 => ?_)
  · replace hf := it_t hf c_1
    clear c_1
    refine lv_iconst (v := -1) hx hb dX4_swrAt_28 (by decide) ?_
    exact hret _ _ _ _ _ _ hf dX4_swrAt_29 hP hD hS
  · replace hf := it_f hf c_1
    clear c_1
    refine lv_iload_n hx hb dX4_swrAt_7 rfl (lv_at hl 1 rfl) ?_
    obtain ⟨r_2, h_3, hf⟩ := b1_some hf
    refine si_call S (tX4_isFrequency l K p0 _ h_3) (va_cwS 1 hts (lw_S q1870 q1871 q101 q1872) rfl rfl rfl (by decide +kernel) ⟨Nat.le_of_ble_eq_true rfl, Nat.le_of_ble_eq_true rfl⟩) rfl hl.1 rfl (Nat.le_of_ble_eq_true rfl) ⟨Nat.le_of_ble_eq_true rfl, Nat.le_of_ble_eq_true rfl⟩ dX4_swrAt_8 ?_
    clear h_3
    refine lv_if_eq (tgt := 28) hx hb dX4_swrAt_11 (by decide) (fun c_4 => ?_) (fun c_4 => ?_)
    · replace hf := it_f hf (bi_e0 c_4)
      clear c_4
      refine lv_iconst (v := -1) hx hb dX4_swrAt_28 (by decide) ?_
      exact hret _ _ _ _ _ _ hf dX4_swrAt_29 hP hD hS
    · replace hf := it_t hf (bi_n0 c_4)
      clear c_4
      refine lv_aload_n hx hb dX4_swrAt_14 rfl (lv_at hl 0 rfl) ?_
      refine lv_aload_n hx hb dX4_swrAt_15 rfl (lv_at hl 0 rfl) ?_
      refine m_get S hK hP 0 (by decide) q1600 rfl dX4_swrAt_16 ?_
      refine lv_iconst (v := 1) hx hb dX4_swrAt_19 (by decide) ?_
      obtain ⟨g_5, hf⟩ := ga_some hf
      refine m_ild S hK hP 0 1 rfl g_5 dX4_swrAt_20 ?_
      clear g_5
      refine lv_iload_n hx hb dX4_swrAt_21 rfl (lv_at hl 1 rfl) ?_
      obtain ⟨r_8, μ_6, h_7, hf⟩ := b2_some hf
      refine ci_call S hK hP hD hZ hS hA (tX4_ratio l D d z o a K (μ.2.2 0 (1 : Int32).toNatClampNeg) p0 μ _ _ h_7) (cwV 2 hts (lw_V q2007 q2009 qs79 q101 q2010) rfl rfl rfl (by decide +kernel) ⟨Nat.le_of_ble_eq_true rfl, Nat.le_of_ble_eq_true rfl⟩) (ci := 0) (q0 := 0) rfl rfl rfl hl.1 rfl (Nat.le_of_ble_eq_true rfl) ⟨Nat.le_of_ble_eq_true rfl, Nat.le_of_ble_eq_true rfl⟩ dX4_swrAt_22 ?_
      clear hP hD hS
      intro H locs hP hD hS
      clear h_7
      refine lv_goto (tgt := 29) hx hb dX4_swrAt_25 (by decide) ?_
      exact hret _ _ _ _ _ _ hf dX4_swrAt_29 hP hD hS
def fX4_swrWith (K : Nat) (p0 : Int32) (p1 : Int32) (p2 : Int32) (μ : MS) : Option (Int32 × MS) :=
  if (μ.1 3) = 0 then
    some ((-1 : Int32), μ)
  else
    b1 (fX4_areSettings K p0 p1 p2) fun r_2 =>
    if r_2 = true then
      b1 (fX4_together K p0 p1 p2) fun r_5 =>
      ga (ix (0 : Int32) 254) <|
      b2 (fX4_ratio K r_5 (μ.2.2 0 (0 : Int32).toNatClampNeg) μ) fun r_10 μ_8 =>
      some (r_10, μ_8)
    else
      some ((-1 : Int32), μ)
set_option maxHeartbeats 4000000 in
set_option maxRecDepth 100000 in
theorem tX4_swrWith (l : Launch) (D : va_G) (d : Nat → ClassId) (z : ZT) (o : Nat) (a : Nat → Nat) (K : Nat) (p0 : Int32) (p1 : Int32) (p2 : Int32) (μ : MS) (r : Int32) (μ' : MS) (hf : fX4_swrWith K p0 p1 p2 μ = some (r, μ')) : CI l yX4_swrWith (ws_ yX4_swrWith cX4_swrWith 4 (Option.some Jvm.ClassFile.FieldType.int)) (rmc 4 0 0 103) D d z [.ref o, .int p0, .int p1, .int p2] (MP d o a μ) r (MP d o a μ') := by
  refine mI_of rfl (by decide) (Nat.le_of_ble_eq_true rfl) ?_
  intro p e s m args below meth c A Q ls S hK hP hD hZ hS hA hl hret
  have hx := S.1
  have hb := S.2.1
  have hts := S.2.2.2.2
  have hl : lv_has ls 4 [(0, .ref o), (1, .int p0), (2, .int p1), (3, .int p2)] := hl
  unfold fX4_swrWith at hf
  refine lv_aload_n hx hb dX4_swrWith_0 rfl (lv_at hl 0 rfl) ?_
  refine m_get S hK hP 3 (by decide) q1603 rfl dX4_swrWith_1 ?_
  refine lv_if_eq (tgt := 35) hx hb dX4_swrWith_4 (by decide) (fun c_1 => ?_) (fun c_1 => ?_)
  · replace hf := it_t hf c_1
    clear c_1
    refine lv_iconst (v := -1) hx hb dX4_swrWith_35 (by decide) ?_
    exact hret _ _ _ _ _ _ hf dX4_swrWith_36 hP hD hS
  · replace hf := it_f hf c_1
    clear c_1
    refine lv_iload_n hx hb dX4_swrWith_7 rfl (lv_at hl 1 rfl) ?_
    refine lv_iload_n hx hb dX4_swrWith_8 rfl (lv_at hl 2 rfl) ?_
    refine lv_iload_n hx hb dX4_swrWith_9 rfl (lv_at hl 3 rfl) ?_
    obtain ⟨r_2, h_3, hf⟩ := b1_some hf
    refine si_call S (tX4_areSettings l K p0 p1 p2 _ h_3) (va_cwS 3 hts (lw_S q1967 q1968 q101 q1969) rfl rfl rfl (by decide +kernel) ⟨Nat.le_of_ble_eq_true rfl, Nat.le_of_ble_eq_true rfl⟩) rfl hl.1 rfl (Nat.le_of_ble_eq_true rfl) ⟨Nat.le_of_ble_eq_true rfl, Nat.le_of_ble_eq_true rfl⟩ dX4_swrWith_10 ?_
    clear h_3
    refine lv_if_eq (tgt := 35) hx hb dX4_swrWith_13 (by decide) (fun c_4 => ?_) (fun c_4 => ?_)
    · replace hf := it_f hf (bi_e0 c_4)
      clear c_4
      refine lv_iconst (v := -1) hx hb dX4_swrWith_35 (by decide) ?_
      exact hret _ _ _ _ _ _ hf dX4_swrWith_36 hP hD hS
    · replace hf := it_t hf (bi_n0 c_4)
      clear c_4
      refine lv_aload_n hx hb dX4_swrWith_16 rfl (lv_at hl 0 rfl) ?_
      refine lv_iload_n hx hb dX4_swrWith_17 rfl (lv_at hl 1 rfl) ?_
      refine lv_iload_n hx hb dX4_swrWith_18 rfl (lv_at hl 2 rfl) ?_
      refine lv_iload_n hx hb dX4_swrWith_19 rfl (lv_at hl 3 rfl) ?_
      obtain ⟨r_5, h_6, hf⟩ := b1_some hf
      refine si_call S (tX4_together l K p0 p1 p2 _ h_6) (va_cwS 3 hts (lw_S q1940 q1941 q101 q1942) rfl rfl rfl (by decide +kernel) ⟨Nat.le_of_ble_eq_true rfl, Nat.le_of_ble_eq_true rfl⟩) rfl hl.1 rfl (Nat.le_of_ble_eq_true rfl) ⟨Nat.le_of_ble_eq_true rfl, Nat.le_of_ble_eq_true rfl⟩ dX4_swrWith_20 ?_
      clear h_6
      refine lv_aload_n hx hb dX4_swrWith_23 rfl (lv_at hl 0 rfl) ?_
      refine m_get S hK hP 0 (by decide) q1600 rfl dX4_swrWith_24 ?_
      refine lv_iconst (v := 0) hx hb dX4_swrWith_27 (by decide) ?_
      obtain ⟨g_7, hf⟩ := ga_some hf
      refine m_ild S hK hP 0 1 rfl g_7 dX4_swrWith_28 ?_
      clear g_7
      obtain ⟨r_10, μ_8, h_9, hf⟩ := b2_some hf
      refine ci_call S hK hP hD hZ hS hA (tX4_ratio l D d z o a K r_5 (μ.2.2 0 (0 : Int32).toNatClampNeg) μ _ _ h_9) (cwV 2 hts (lw_V q2007 q2009 qs79 q101 q2010) rfl rfl rfl (by decide +kernel) ⟨Nat.le_of_ble_eq_true rfl, Nat.le_of_ble_eq_true rfl⟩) (ci := 0) (q0 := 0) rfl rfl rfl hl.1 rfl (Nat.le_of_ble_eq_true rfl) ⟨Nat.le_of_ble_eq_true rfl, Nat.le_of_ble_eq_true rfl⟩ dX4_swrWith_29 ?_
      clear hP hD hS
      intro H locs hP hD hS
      clear h_9
      refine lv_goto (tgt := 36) hx hb dX4_swrWith_32 (by decide) ?_
      exact hret _ _ _ _ _ _ hf dX4_swrWith_36 hP hD hS
def fX4_efficiencyOf (K : Nat) (p0 : Int32) (μ : MS) : Option (Int32 × MS) :=
  ga (ix (0 : Int32) 254) <|
  b1 (fX4_work K p0 (μ.2.2 0 (0 : Int32).toNatClampNeg) μ) fun μ_2 =>
  nm ((μ_2.2.1 36) + (μ_2.2.1 38)) fun v_4 =>
  if v_4 = (0 : Int64) then
    some ((0 : Int32), μ_2)
  else
    ga (¬ v_4 = 0) <|
    some ((((1000 : Int64) * (μ_2.2.1 36)) / v_4).toInt32, μ_2)
set_option maxHeartbeats 4000000 in
set_option maxRecDepth 100000 in
theorem tX4_efficiencyOf (l : Launch) (D : va_G) (d : Nat → ClassId) (z : ZT) (o : Nat) (a : Nat → Nat) (K : Nat) (p0 : Int32) (μ : MS) (r : Int32) (μ' : MS) (hf : fX4_efficiencyOf K p0 μ = some (r, μ')) : CI l yX4_efficiencyOf (ws_ yX4_efficiencyOf cX4_efficiencyOf 4 (Option.some Jvm.ClassFile.FieldType.int)) (rmc 3 0 0 77) D d z [.ref o, .int p0] (MP d o a μ) r (MP d o a μ') := by
  refine mI_of rfl (by decide) (Nat.le_of_ble_eq_true rfl) ?_
  intro p e s m args below meth c A Q ls S hK hP hD hZ hS hA hl hret
  have hx := S.1
  have hb := S.2.1
  have hts := S.2.2.2.2
  have hl : lv_has ls 4 [(0, .ref o), (1, .int p0)] := hl
  unfold fX4_efficiencyOf at hf
  refine lv_aload_n hx hb dX4_efficiencyOf_0 rfl (lv_at hl 0 rfl) ?_
  refine lv_iload_n hx hb dX4_efficiencyOf_1 rfl (lv_at hl 1 rfl) ?_
  refine lv_aload_n hx hb dX4_efficiencyOf_2 rfl (lv_at hl 0 rfl) ?_
  refine m_get S hK hP 0 (by decide) q1600 rfl dX4_efficiencyOf_3 ?_
  refine lv_iconst (v := 0) hx hb dX4_efficiencyOf_6 (by decide) ?_
  obtain ⟨g_1, hf⟩ := ga_some hf
  refine m_ild S hK hP 0 1 rfl g_1 dX4_efficiencyOf_7 ?_
  clear g_1
  obtain ⟨μ_2, h_3, hf⟩ := b1_some hf
  refine cv_call S hK hP hD hZ hS hA (tX4_work l D d z o a K p0 (μ.2.2 0 (0 : Int32).toNatClampNeg) μ _ h_3) (cwV 2 hts (lw_V q1974 q1976 qs75 q101 q1977) rfl rfl rfl (by decide +kernel) ⟨Nat.le_of_ble_eq_true rfl, Nat.le_of_ble_eq_true rfl⟩) (ci := 0) (q0 := 0) rfl rfl rfl hl.1 rfl (Nat.le_of_ble_eq_true rfl) ⟨Nat.le_of_ble_eq_true rfl, Nat.le_of_ble_eq_true rfl⟩ dX4_efficiencyOf_8 ?_
  clear hP hD hS
  intro H locs hP hD hS
  clear h_3
  refine lv_aload_n hx hb dX4_efficiencyOf_11 rfl (lv_at hl 0 rfl) ?_
  refine m_get S hK hP 36 (by decide) q1636 rfl dX4_efficiencyOf_12 ?_
  refine lv_aload_n hx hb dX4_efficiencyOf_15 rfl (lv_at hl 0 rfl) ?_
  refine m_get S hK hP 38 (by decide) q1638 rfl dX4_efficiencyOf_16 ?_
  refine lv_ladd hx hb dX4_efficiencyOf_19 ?_
  refine lv_topl (fun v_4 e_ => ?_)
  replace hf := nm_some hf v_4 e_
  clear e_
  refine lv_lstore_n (lv' := [(2, .long v_4), (0, .ref o), (1, .int p0)]) hx hb dX4_efficiencyOf_20 rfl hl (by decide) rfl (fun ls hl => ?_)
  refine lv_lload_n hx hb dX4_efficiencyOf_21 rfl (lv_at hl 0 rfl) ?_
  refine lv_lconst (v := 0) hx hb dX4_efficiencyOf_22 (by decide) ?_
  refine g_lcmp_ne (tgt := 31) hx hb dX4_efficiencyOf_23 dX4_efficiencyOf_24 (by decide) (fun c_5 => ?_) (fun c_5 => ?_)
  · replace hf := it_f hf c_5
    clear c_5
    refine lv_ldc2 hx hb S.2.2.2.1 (hts _ q2035) dX4_efficiencyOf_31 ?_
    refine lv_aload_n hx hb dX4_efficiencyOf_34 rfl (lv_at hl 1 rfl) ?_
    refine m_get S hK hP 36 (by decide) q1636 rfl dX4_efficiencyOf_35 ?_
    refine lv_lmul hx hb dX4_efficiencyOf_38 ?_
    refine lv_lload_n hx hb dX4_efficiencyOf_39 rfl (lv_at hl 0 rfl) ?_
    obtain ⟨g_6, hf⟩ := ga_some hf
    refine lv_ldiv hx hb dX4_efficiencyOf_40 g_6 ?_
    refine lv_l2i (v := (((1000 : Int64) * (μ_2.2.1 36)) / v_4).toInt32) hx hb dX4_efficiencyOf_41 rfl ?_
    exact hret _ _ _ _ _ _ hf dX4_efficiencyOf_42 hP hD hS
  · replace hf := it_t hf c_5
    clear c_5
    refine lv_iconst (v := 0) hx hb dX4_efficiencyOf_27 (by decide) ?_
    refine lv_goto (tgt := 42) hx hb dX4_efficiencyOf_28 (by decide) ?_
    exact hret _ _ _ _ _ _ hf dX4_efficiencyOf_42 hP hD hS
def fX4_voltageOf_L118 (K : Nat) (x118_5 : Int64) (x118_11 : Int64) (μ118 : MS) : Option (Int32 × MS) :=
  b1 (fX4_root K ((x118_5 * x118_11) / (1000 : Int64))) fun r_14 =>
  b1 (fX4_clamp K r_14 (0 : Int64) (99999 : Int64)) fun r_16 =>
  some (r_16.toInt32, μ118)
def fX4_voltageOf_L75 (K : Nat) (t75_0 : Int64) (x75_5 : Int64) (x75_7 : Int64) (μ75 : MS) : Option (Int32 × MS) :=
  if x75_7 = (0 : Int64) then
    some ((99999 : Int32), μ75)
  else
    ga (¬ x75_7 = 0) <|
    nm (((x75_7 * x75_7) + (t75_0 * t75_0)) / x75_7) fun v_12 =>
    if v_12 ≤ (1000000000000 : Int64) then
      fX4_voltageOf_L118 K x75_5 v_12 μ75
    else
      fX4_voltageOf_L118 K x75_5 (1000000000000 : Int64) μ75
def fX4_voltageOf_L57 (K : Nat) (t57_0 : Int64) (x57_4 : Int32) (x57_5 : Int64) (μ57 : MS) : Option (Int32 × MS) :=
  if x57_4 = 0 then
    fX4_voltageOf_L75 K (μ57.2.1 35) x57_5 t57_0 μ57
  else
    fX4_voltageOf_L75 K (μ57.2.1 37) x57_5 t57_0 μ57
def fX4_voltageOf_L39 (K : Nat) (t39_0 : Int64) (x39_4 : Int32) (μ39 : MS) : Option (Int32 × MS) :=
  if x39_4 = 0 then
    fX4_voltageOf_L57 K (μ39.2.1 34) x39_4 t39_0 μ39
  else
    fX4_voltageOf_L57 K (μ39.2.1 36) x39_4 t39_0 μ39
def fX4_voltageOf_L18 (K : Nat) (t18_0 : Int32) (x18_2 : Int32) (x18_3 : Int32) (μ18 : MS) : Option (Int32 × MS) :=
  if t18_0 = 0 then
    fX4_voltageOf_L39 K x18_2.toInt64 t18_0 μ18
  else
    fX4_voltageOf_L39 K ((x18_2.toInt64 * x18_3.toInt64) / (1000 : Int64)) t18_0 μ18
def fX4_voltageOf (K : Nat) (p0 : Int32) (p1 : Int32) (μ : MS) : Option (Int32 × MS) :=
  b2 (fX4_efficiencyOf K p0 μ) fun r_3 μ_1 =>
  b1 (fX4_side K p0) fun r_4 =>
  if r_4 = 0 then
    fX4_voltageOf_L18 K (1 : Int32) p1 r_3 μ_1
  else
    fX4_voltageOf_L18 K (0 : Int32) p1 r_3 μ_1
set_option maxHeartbeats 4000000 in
set_option maxRecDepth 100000 in
theorem tX4_voltageOf (l : Launch) (D : va_G) (d : Nat → ClassId) (z : ZT) (o : Nat) (a : Nat → Nat) (K : Nat) (p0 : Int32) (p1 : Int32) (μ : MS) (r : Int32) (μ' : MS) (hf : fX4_voltageOf K p0 p1 μ = some (r, μ')) : CI l yX4_voltageOf (ws_ yX4_voltageOf cX4_voltageOf 13 (Option.some Jvm.ClassFile.FieldType.int)) (rmc 4 0 0 100) D d z [.ref o, .int p0, .int p1] (MP d o a μ) r (MP d o a μ') := by
  refine mI_of rfl (by decide) (Nat.le_of_ble_eq_true rfl) ?_
  intro p e s m args below meth c A Q ls S hK hP hD hZ hS hA hl hret
  have hx := S.1
  have hb := S.2.1
  have hts := S.2.2.2.2
  have hl : lv_has ls 13 [(0, .ref o), (1, .int p0), (2, .int p1)] := hl
  have L118 : ∀ (x118_5 : Int64) (x118_11 : Int64) (μ118 : MS) (H : Heap) (locs : List Loc) (ls : Array Slot), fX4_voltageOf_L118 K x118_5 x118_11 μ118 = some (r, μ') → va_P D CL (MP d o a μ118) H → va_D A (MP d o a μ118) → va_S A s.heap H locs → lv_has ls 13 [(5, .long x118_5), (11, .long x118_11)] → W p l e (rmc 4 0 0 100) s m args below meth c H locs 0 0 Q (F0 m 118 ls []) := by
    intro x118_5 x118_11 μ118 H locs ls hf hP hD hS hl
    unfold fX4_voltageOf_L118 at hf
    refine lv_lload hx hb dX4_voltageOf_118 (lv_at hl 0 rfl) ?_
    refine lv_lload hx hb dX4_voltageOf_120 (lv_at hl 1 rfl) ?_
    refine lv_lmul hx hb dX4_voltageOf_122 ?_
    refine lv_ldc2 hx hb S.2.2.2.1 (hts _ q2035) dX4_voltageOf_123 ?_
    refine lv_ldiv hx hb dX4_voltageOf_126 (by decide) ?_
    obtain ⟨r_14, h_15, hf⟩ := b1_some hf
    refine sj_call S (tX4_root l K ((x118_5 * x118_11) / (1000 : Int64)) _ h_15) (va_cwS 1 hts (lw_S q2012 q2013 q101 q2014) rfl rfl rfl (by decide +kernel) ⟨Nat.le_of_ble_eq_true rfl, Nat.le_of_ble_eq_true rfl⟩) rfl hl.1 rfl (Nat.le_of_ble_eq_true rfl) ⟨Nat.le_of_ble_eq_true rfl, Nat.le_of_ble_eq_true rfl⟩ dX4_voltageOf_127 ?_
    clear h_15
    refine lv_lconst (v := 0) hx hb dX4_voltageOf_130 (by decide) ?_
    refine lv_ldc2 hx hb S.2.2.2.1 (hts _ q2018) dX4_voltageOf_131 ?_
    obtain ⟨r_16, h_17, hf⟩ := b1_some hf
    refine sj_call S (tX4_clamp l K r_14 (0 : Int64) (99999 : Int64) _ h_17) (va_cwS 3 hts (lw_S q1987 q1988 q101 q1989) rfl rfl rfl (by decide +kernel) ⟨Nat.le_of_ble_eq_true rfl, Nat.le_of_ble_eq_true rfl⟩) rfl hl.1 rfl (Nat.le_of_ble_eq_true rfl) ⟨Nat.le_of_ble_eq_true rfl, Nat.le_of_ble_eq_true rfl⟩ dX4_voltageOf_134 ?_
    clear h_17
    refine lv_l2i (v := r_16.toInt32) hx hb dX4_voltageOf_137 rfl ?_
    exact hret _ _ _ _ _ _ hf dX4_voltageOf_138 hP hD hS
  have L75 : ∀ (t75_0 : Int64) (x75_5 : Int64) (x75_7 : Int64) (μ75 : MS) (H : Heap) (locs : List Loc) (ls : Array Slot), fX4_voltageOf_L75 K t75_0 x75_5 x75_7 μ75 = some (r, μ') → va_P D CL (MP d o a μ75) H → va_D A (MP d o a μ75) → va_S A s.heap H locs → lv_has ls 13 [(5, .long x75_5), (7, .long x75_7)] → W p l e (rmc 4 0 0 100) s m args below meth c H locs 0 0 Q (F0 m 75 ls [.long t75_0]) := by
    intro t75_0 x75_5 x75_7 μ75 H locs ls hf hP hD hS hl
    unfold fX4_voltageOf_L75 at hf
    refine lv_lstore (lv' := [(9, .long t75_0), (5, .long x75_5), (7, .long x75_7)]) hx hb dX4_voltageOf_75 hl (by decide) rfl (fun ls hl => ?_)
    refine lv_lload hx hb dX4_voltageOf_77 (lv_at hl 2 rfl) ?_
    refine lv_lconst (v := 0) hx hb dX4_voltageOf_79 (by decide) ?_
    refine g_lcmp_ne (tgt := 88) hx hb dX4_voltageOf_80 dX4_voltageOf_81 (by decide) (fun c_10 => ?_) (fun c_10 => ?_)
    · replace hf := it_f hf c_10
      clear c_10
      refine lv_lload hx hb dX4_voltageOf_88 (lv_at hl 2 rfl) ?_
      refine lv_lload hx hb dX4_voltageOf_90 (lv_at hl 2 rfl) ?_
      refine lv_lmul hx hb dX4_voltageOf_92 ?_
      refine lv_lload hx hb dX4_voltageOf_93 (lv_at hl 0 rfl) ?_
      refine lv_lload hx hb dX4_voltageOf_95 (lv_at hl 0 rfl) ?_
      refine lv_lmul hx hb dX4_voltageOf_97 ?_
      refine lv_ladd hx hb dX4_voltageOf_98 ?_
      refine lv_lload hx hb dX4_voltageOf_99 (lv_at hl 2 rfl) ?_
      obtain ⟨g_11, hf⟩ := ga_some hf
      refine lv_ldiv hx hb dX4_voltageOf_101 g_11 ?_
      refine lv_topl (fun v_12 e_ => ?_)
      replace hf := nm_some hf v_12 e_
      clear e_
      refine lv_lstore (lv' := [(11, .long v_12), (9, .long t75_0), (5, .long x75_5), (7, .long x75_7)]) hx hb dX4_voltageOf_102 hl (by decide) rfl (fun ls hl => ?_)
      refine lv_lload hx hb dX4_voltageOf_104 (lv_at hl 0 rfl) ?_
      refine lv_ldc2 hx hb S.2.2.2.1 (hts _ q2044) dX4_voltageOf_106 ?_
      refine g_lcmp_le (tgt := 118) hx hb dX4_voltageOf_109 dX4_voltageOf_110 (by decide) (fun c_13 => ?_) (fun c_13 => ?_)
      · replace hf := it_t hf c_13
        clear c_13
        exact L118 x75_5 v_12 μ75 _ _ _ hf hP hD hS (lv_sub hl [2, 0] rfl)
      · replace hf := it_f hf c_13
        clear c_13
        refine lv_ldc2 hx hb S.2.2.2.1 (hts _ q2044) dX4_voltageOf_113 ?_
        refine lv_lstore (lv' := [(11, .long (1000000000000 : Int64)), (9, .long t75_0), (5, .long x75_5), (7, .long x75_7)]) hx hb dX4_voltageOf_116 hl (by decide) rfl (fun ls hl => ?_)
        exact L118 x75_5 (1000000000000 : Int64) μ75 _ _ _ hf hP hD hS (lv_sub hl [2, 0] rfl)
    · replace hf := it_t hf c_10
      clear c_10
      refine lv_ldcw hx hb S.2.2.2.1 (hts _ q2017) dX4_voltageOf_84 ?_
      exact hret _ _ _ _ _ _ hf dX4_voltageOf_87 hP hD hS
  have L57 : ∀ (t57_0 : Int64) (x57_4 : Int32) (x57_5 : Int64) (μ57 : MS) (H : Heap) (locs : List Loc) (ls : Array Slot), fX4_voltageOf_L57 K t57_0 x57_4 x57_5 μ57 = some (r, μ') → va_P D CL (MP d o a μ57) H → va_D A (MP d o a μ57) → va_S A s.heap H locs → lv_has ls 13 [(0, .ref o), (4, .int x57_4), (5, .long x57_5)] → W p l e (rmc 4 0 0 100) s m args below meth c H locs 0 0 Q (F0 m 57 ls [.long t57_0]) := by
    intro t57_0 x57_4 x57_5 μ57 H locs ls hf hP hD hS hl
    unfold fX4_voltageOf_L57 at hf
    refine lv_lstore (lv' := [(7, .long t57_0), (0, .ref o), (4, .int x57_4), (5, .long x57_5)]) hx hb dX4_voltageOf_57 hl (by decide) rfl (fun ls hl => ?_)
    refine lv_iload hx hb dX4_voltageOf_59 (lv_at hl 2 rfl) ?_
    refine lv_if_eq (tgt := 71) hx hb dX4_voltageOf_61 (by decide) (fun c_9 => ?_) (fun c_9 => ?_)
    · replace hf := it_t hf c_9
      clear c_9
      refine lv_aload_n hx hb dX4_voltageOf_71 rfl (lv_at hl 1 rfl) ?_
      refine m_get S hK hP 35 (by decide) q1635 rfl dX4_voltageOf_72 ?_
      exact L75 (μ57.2.1 35) x57_5 t57_0 μ57 _ _ _ hf hP hD hS (lv_sub hl [3, 0] rfl)
    · replace hf := it_f hf c_9
      clear c_9
      refine lv_aload_n hx hb dX4_voltageOf_64 rfl (lv_at hl 1 rfl) ?_
      refine m_get S hK hP 37 (by decide) q1637 rfl dX4_voltageOf_65 ?_
      refine lv_goto (tgt := 75) hx hb dX4_voltageOf_68 (by decide) ?_
      exact L75 (μ57.2.1 37) x57_5 t57_0 μ57 _ _ _ hf hP hD hS (lv_sub hl [3, 0] rfl)
  have L39 : ∀ (t39_0 : Int64) (x39_4 : Int32) (μ39 : MS) (H : Heap) (locs : List Loc) (ls : Array Slot), fX4_voltageOf_L39 K t39_0 x39_4 μ39 = some (r, μ') → va_P D CL (MP d o a μ39) H → va_D A (MP d o a μ39) → va_S A s.heap H locs → lv_has ls 13 [(0, .ref o), (4, .int x39_4)] → W p l e (rmc 4 0 0 100) s m args below meth c H locs 0 0 Q (F0 m 39 ls [.long t39_0]) := by
    intro t39_0 x39_4 μ39 H locs ls hf hP hD hS hl
    unfold fX4_voltageOf_L39 at hf
    refine lv_lstore (lv' := [(5, .long t39_0), (0, .ref o), (4, .int x39_4)]) hx hb dX4_voltageOf_39 hl (by decide) rfl (fun ls hl => ?_)
    refine lv_iload hx hb dX4_voltageOf_41 (lv_at hl 2 rfl) ?_
    refine lv_if_eq (tgt := 53) hx hb dX4_voltageOf_43 (by decide) (fun c_8 => ?_) (fun c_8 => ?_)
    · replace hf := it_t hf c_8
      clear c_8
      refine lv_aload_n hx hb dX4_voltageOf_53 rfl (lv_at hl 1 rfl) ?_
      refine m_get S hK hP 34 (by decide) q1634 rfl dX4_voltageOf_54 ?_
      exact L57 (μ39.2.1 34) x39_4 t39_0 μ39 _ _ _ hf hP hD hS (lv_sub hl [1, 2, 0] rfl)
    · replace hf := it_f hf c_8
      clear c_8
      refine lv_aload_n hx hb dX4_voltageOf_46 rfl (lv_at hl 1 rfl) ?_
      refine m_get S hK hP 36 (by decide) q1636 rfl dX4_voltageOf_47 ?_
      refine lv_goto (tgt := 57) hx hb dX4_voltageOf_50 (by decide) ?_
      exact L57 (μ39.2.1 36) x39_4 t39_0 μ39 _ _ _ hf hP hD hS (lv_sub hl [1, 2, 0] rfl)
  have L18 : ∀ (t18_0 : Int32) (x18_2 : Int32) (x18_3 : Int32) (μ18 : MS) (H : Heap) (locs : List Loc) (ls : Array Slot), fX4_voltageOf_L18 K t18_0 x18_2 x18_3 μ18 = some (r, μ') → va_P D CL (MP d o a μ18) H → va_D A (MP d o a μ18) → va_S A s.heap H locs → lv_has ls 13 [(0, .ref o), (2, .int x18_2), (3, .int x18_3)] → W p l e (rmc 4 0 0 100) s m args below meth c H locs 0 0 Q (F0 m 18 ls [.int t18_0]) := by
    intro t18_0 x18_2 x18_3 μ18 H locs ls hf hP hD hS hl
    unfold fX4_voltageOf_L18 at hf
    refine lv_istore (lv' := [(4, .int t18_0), (0, .ref o), (2, .int x18_2), (3, .int x18_3)]) hx hb dX4_voltageOf_18 hl (by decide) rfl (fun ls hl => ?_)
    refine lv_iload hx hb dX4_voltageOf_20 (lv_at hl 0 rfl) ?_
    refine lv_if_eq (tgt := 37) hx hb dX4_voltageOf_22 (by decide) (fun c_7 => ?_) (fun c_7 => ?_)
    · replace hf := it_t hf c_7
      clear c_7
      refine lv_iload_n hx hb dX4_voltageOf_37 rfl (lv_at hl 2 rfl) ?_
      refine lv_i2l (v := x18_2.toInt64) hx hb dX4_voltageOf_38 rfl ?_
      exact L39 x18_2.toInt64 t18_0 μ18 _ _ _ hf hP hD hS (lv_sub hl [1, 0] rfl)
    · replace hf := it_f hf c_7
      clear c_7
      refine lv_iload_n hx hb dX4_voltageOf_25 rfl (lv_at hl 2 rfl) ?_
      refine lv_i2l (v := x18_2.toInt64) hx hb dX4_voltageOf_26 rfl ?_
      refine lv_iload_n hx hb dX4_voltageOf_27 rfl (lv_at hl 3 rfl) ?_
      refine lv_i2l (v := x18_3.toInt64) hx hb dX4_voltageOf_28 rfl ?_
      refine lv_lmul hx hb dX4_voltageOf_29 ?_
      refine lv_ldc2 hx hb S.2.2.2.1 (hts _ q2035) dX4_voltageOf_30 ?_
      refine lv_ldiv hx hb dX4_voltageOf_33 (by decide) ?_
      refine lv_goto (tgt := 39) hx hb dX4_voltageOf_34 (by decide) ?_
      exact L39 ((x18_2.toInt64 * x18_3.toInt64) / (1000 : Int64)) t18_0 μ18 _ _ _ hf hP hD hS (lv_sub hl [1, 0] rfl)
  unfold fX4_voltageOf at hf
  refine lv_aload_n hx hb dX4_voltageOf_0 rfl (lv_at hl 0 rfl) ?_
  refine lv_iload_n hx hb dX4_voltageOf_1 rfl (lv_at hl 1 rfl) ?_
  obtain ⟨r_3, μ_1, h_2, hf⟩ := b2_some hf
  refine ci_call S hK hP hD hZ hS hA (tX4_efficiencyOf l D d z o a K p0 μ _ _ h_2) (cwV 1 hts (lw_V q2031 q2033 qs80 q101 q2034) rfl rfl rfl (by decide +kernel) ⟨Nat.le_of_ble_eq_true rfl, Nat.le_of_ble_eq_true rfl⟩) (ci := 0) (q0 := 0) rfl rfl rfl hl.1 rfl (Nat.le_of_ble_eq_true rfl) ⟨Nat.le_of_ble_eq_true rfl, Nat.le_of_ble_eq_true rfl⟩ dX4_voltageOf_2 ?_
  clear hP hD hS
  intro H locs hP hD hS
  clear h_2
  refine lv_istore_n (lv' := [(3, .int r_3), (0, .ref o), (1, .int p0), (2, .int p1)]) hx hb dX4_voltageOf_5 rfl hl (by decide) rfl (fun ls hl => ?_)
  refine lv_iload_n hx hb dX4_voltageOf_6 rfl (lv_at hl 2 rfl) ?_
  obtain ⟨r_4, h_5, hf⟩ := b1_some hf
  refine si_call S (tX4_side l K p0 _ h_5) (va_cwS 1 hts (lw_S q1943 q1944 q101 q1945) rfl rfl rfl (by decide +kernel) ⟨Nat.le_of_ble_eq_true rfl, Nat.le_of_ble_eq_true rfl⟩) rfl hl.1 rfl (Nat.le_of_ble_eq_true rfl) ⟨Nat.le_of_ble_eq_true rfl, Nat.le_of_ble_eq_true rfl⟩ dX4_voltageOf_7 ?_
  clear h_5
  refine lv_if_ne (tgt := 17) hx hb dX4_voltageOf_10 (by decide) (fun c_6 => ?_) (fun c_6 => ?_)
  · replace hf := it_f hf c_6
    clear c_6
    refine lv_iconst (v := 0) hx hb dX4_voltageOf_17 (by decide) ?_
    exact L18 (0 : Int32) p1 r_3 μ_1 _ _ _ hf hP hD hS (lv_sub hl [1, 3, 0] rfl)
  · replace hf := it_t hf c_6
    clear c_6
    refine lv_iconst (v := 1) hx hb dX4_voltageOf_13 (by decide) ?_
    refine lv_goto (tgt := 18) hx hb dX4_voltageOf_14 (by decide) ?_
    exact L18 (1 : Int32) p1 r_3 μ_1 _ _ _ hf hP hD hS (lv_sub hl [1, 3, 0] rfl)
def fX4_isOverloaded (K : Nat) (p0 : Int32) (μ : MS) : Option (Bool × MS) :=
  b2 (fX4_voltageOf K p0 (μ.1 7) μ) fun r_3 μ_1 =>
  if r_3 ≤ (μ_1.1 8) then
    some (false, μ_1)
  else
    some (true, μ_1)
set_option maxHeartbeats 4000000 in
set_option maxRecDepth 100000 in
theorem tX4_isOverloaded (l : Launch) (D : va_G) (d : Nat → ClassId) (z : ZT) (o : Nat) (a : Nat → Nat) (K : Nat) (p0 : Int32) (μ : MS) (r : Bool) (μ' : MS) (hf : fX4_isOverloaded K p0 μ = some (r, μ')) : CI l yX4_isOverloaded (ws_ yX4_isOverloaded cX4_isOverloaded 2 (Option.some Jvm.ClassFile.FieldType.boolean)) (rmc 5 0 0 132) D d z [.ref o, .int p0] (MP d o a μ) (bi r) (MP d o a μ') := by
  refine mZ_of rfl (by decide) (Nat.le_of_ble_eq_true rfl) ?_
  intro p e s m args below meth c A Q ls S hK hP hD hZ hS hA hl hret
  have hx := S.1
  have hb := S.2.1
  have hts := S.2.2.2.2
  have hl : lv_has ls 2 [(0, .ref o), (1, .int p0)] := hl
  unfold fX4_isOverloaded at hf
  refine lv_aload_n hx hb dX4_isOverloaded_0 rfl (lv_at hl 0 rfl) ?_
  refine lv_iload_n hx hb dX4_isOverloaded_1 rfl (lv_at hl 1 rfl) ?_
  refine lv_aload_n hx hb dX4_isOverloaded_2 rfl (lv_at hl 0 rfl) ?_
  refine m_get S hK hP 7 (by decide) q1607 rfl dX4_isOverloaded_3 ?_
  obtain ⟨r_3, μ_1, h_2, hf⟩ := b2_some hf
  refine ci_call S hK hP hD hZ hS hA (tX4_voltageOf l D d z o a K p0 (μ.1 7) μ _ _ h_2) (cwV 2 hts (lw_V q2040 q2042 qs81 q101 q2043) rfl rfl rfl (by decide +kernel) ⟨Nat.le_of_ble_eq_true rfl, Nat.le_of_ble_eq_true rfl⟩) (ci := 0) (q0 := 0) rfl rfl rfl hl.1 rfl (Nat.le_of_ble_eq_true rfl) ⟨Nat.le_of_ble_eq_true rfl, Nat.le_of_ble_eq_true rfl⟩ dX4_isOverloaded_6 ?_
  clear hP hD hS
  intro H locs hP hD hS
  clear h_2
  refine lv_aload_n hx hb dX4_isOverloaded_9 rfl (lv_at hl 0 rfl) ?_
  refine m_get S hK hP 8 (by decide) q1608 rfl dX4_isOverloaded_10 ?_
  refine lv_icmp_le (tgt := 20) hx hb dX4_isOverloaded_13 (by decide) (fun c_4 => ?_) (fun c_4 => ?_)
  · replace hf := it_t hf c_4
    clear c_4
    refine lv_iconst (v := 0) hx hb dX4_isOverloaded_20 (by decide) ?_
    exact hret _ _ _ _ _ _ hf dX4_isOverloaded_21 hP hD hS
  · replace hf := it_f hf c_4
    clear c_4
    refine lv_iconst (v := 1) hx hb dX4_isOverloaded_16 (by decide) ?_
    refine lv_goto (tgt := 21) hx hb dX4_isOverloaded_17 (by decide) ?_
    exact hret _ _ _ _ _ _ hf dX4_isOverloaded_21 hP hD hS
def fX4_efficiency (K : Nat) (μ : MS) : Option (Int32 × MS) :=
  if (μ.1 3) = 0 then
    some ((-1 : Int32), μ)
  else
    ga (ix (1 : Int32) 254) <|
    b2 (fX4_efficiencyOf K (μ.2.2 0 (1 : Int32).toNatClampNeg) μ) fun r_5 μ_3 =>
    some (r_5, μ_3)
set_option maxHeartbeats 4000000 in
set_option maxRecDepth 100000 in
theorem tX4_efficiency (l : Launch) (D : va_G) (d : Nat → ClassId) (z : ZT) (o : Nat) (a : Nat → Nat) (K : Nat) (μ : MS) (r : Int32) (μ' : MS) (hf : fX4_efficiency K μ = some (r, μ')) : CI l yX4_efficiency (ws_ yX4_efficiency cX4_efficiency 1 (Option.some Jvm.ClassFile.FieldType.int)) (rmc 4 0 0 100) D d z [.ref o] (MP d o a μ) r (MP d o a μ') := by
  refine mI_of rfl (by decide) (Nat.le_of_ble_eq_true rfl) ?_
  intro p e s m args below meth c A Q ls S hK hP hD hZ hS hA hl hret
  have hx := S.1
  have hb := S.2.1
  have hts := S.2.2.2.2
  have hl : lv_has ls 1 [(0, .ref o)] := hl
  unfold fX4_efficiency at hf
  refine lv_aload_n hx hb dX4_efficiency_0 rfl (lv_at hl 0 rfl) ?_
  refine m_get S hK hP 3 (by decide) q1603 rfl dX4_efficiency_1 ?_
  refine lv_if_eq (tgt := 20) hx hb dX4_efficiency_4 (by decide) (fun c_1 => ?_) (fun c_1 => ?_)
  · replace hf := it_t hf c_1
    clear c_1
    refine lv_iconst (v := -1) hx hb dX4_efficiency_20 (by decide) ?_
    exact hret _ _ _ _ _ _ hf dX4_efficiency_21 hP hD hS
  · replace hf := it_f hf c_1
    clear c_1
    refine lv_aload_n hx hb dX4_efficiency_7 rfl (lv_at hl 0 rfl) ?_
    refine lv_aload_n hx hb dX4_efficiency_8 rfl (lv_at hl 0 rfl) ?_
    refine m_get S hK hP 0 (by decide) q1600 rfl dX4_efficiency_9 ?_
    refine lv_iconst (v := 1) hx hb dX4_efficiency_12 (by decide) ?_
    obtain ⟨g_2, hf⟩ := ga_some hf
    refine m_ild S hK hP 0 1 rfl g_2 dX4_efficiency_13 ?_
    clear g_2
    obtain ⟨r_5, μ_3, h_4, hf⟩ := b2_some hf
    refine ci_call S hK hP hD hZ hS hA (tX4_efficiencyOf l D d z o a K (μ.2.2 0 (1 : Int32).toNatClampNeg) μ _ _ h_4) (cwV 1 hts (lw_V q2031 q2033 qs80 q101 q2034) rfl rfl rfl (by decide +kernel) ⟨Nat.le_of_ble_eq_true rfl, Nat.le_of_ble_eq_true rfl⟩) (ci := 0) (q0 := 0) rfl rfl rfl hl.1 rfl (Nat.le_of_ble_eq_true rfl) ⟨Nat.le_of_ble_eq_true rfl, Nat.le_of_ble_eq_true rfl⟩ dX4_efficiency_14 ?_
    clear hP hD hS
    intro H locs hP hD hS
    clear h_4
    refine lv_goto (tgt := 21) hx hb dX4_efficiency_17 (by decide) ?_
    exact hret _ _ _ _ _ _ hf dX4_efficiency_21 hP hD hS
def fX4_capacitorVoltage (K : Nat) (μ : MS) : Option (Int32 × MS) :=
  if (μ.1 3) = 0 then
    some ((-1 : Int32), μ)
  else
    ga (ix (1 : Int32) 254) <|
    b2 (fX4_voltageOf K (μ.2.2 0 (1 : Int32).toNatClampNeg) (μ.1 7) μ) fun r_5 μ_3 =>
    some (r_5, μ_3)
set_option maxHeartbeats 4000000 in
set_option maxRecDepth 100000 in
theorem tX4_capacitorVoltage (l : Launch) (D : va_G) (d : Nat → ClassId) (z : ZT) (o : Nat) (a : Nat → Nat) (K : Nat) (μ : MS) (r : Int32) (μ' : MS) (hf : fX4_capacitorVoltage K μ = some (r, μ')) : CI l yX4_capacitorVoltage (ws_ yX4_capacitorVoltage cX4_capacitorVoltage 1 (Option.some Jvm.ClassFile.FieldType.int)) (rmc 5 0 0 132) D d z [.ref o] (MP d o a μ) r (MP d o a μ') := by
  refine mI_of rfl (by decide) (Nat.le_of_ble_eq_true rfl) ?_
  intro p e s m args below meth c A Q ls S hK hP hD hZ hS hA hl hret
  have hx := S.1
  have hb := S.2.1
  have hts := S.2.2.2.2
  have hl : lv_has ls 1 [(0, .ref o)] := hl
  unfold fX4_capacitorVoltage at hf
  refine lv_aload_n hx hb dX4_capacitorVoltage_0 rfl (lv_at hl 0 rfl) ?_
  refine m_get S hK hP 3 (by decide) q1603 rfl dX4_capacitorVoltage_1 ?_
  refine lv_if_eq (tgt := 24) hx hb dX4_capacitorVoltage_4 (by decide) (fun c_1 => ?_) (fun c_1 => ?_)
  · replace hf := it_t hf c_1
    clear c_1
    refine lv_iconst (v := -1) hx hb dX4_capacitorVoltage_24 (by decide) ?_
    exact hret _ _ _ _ _ _ hf dX4_capacitorVoltage_25 hP hD hS
  · replace hf := it_f hf c_1
    clear c_1
    refine lv_aload_n hx hb dX4_capacitorVoltage_7 rfl (lv_at hl 0 rfl) ?_
    refine lv_aload_n hx hb dX4_capacitorVoltage_8 rfl (lv_at hl 0 rfl) ?_
    refine m_get S hK hP 0 (by decide) q1600 rfl dX4_capacitorVoltage_9 ?_
    refine lv_iconst (v := 1) hx hb dX4_capacitorVoltage_12 (by decide) ?_
    obtain ⟨g_2, hf⟩ := ga_some hf
    refine m_ild S hK hP 0 1 rfl g_2 dX4_capacitorVoltage_13 ?_
    clear g_2
    refine lv_aload_n hx hb dX4_capacitorVoltage_14 rfl (lv_at hl 0 rfl) ?_
    refine m_get S hK hP 7 (by decide) q1607 rfl dX4_capacitorVoltage_15 ?_
    obtain ⟨r_5, μ_3, h_4, hf⟩ := b2_some hf
    refine ci_call S hK hP hD hZ hS hA (tX4_voltageOf l D d z o a K (μ.2.2 0 (1 : Int32).toNatClampNeg) (μ.1 7) μ _ _ h_4) (cwV 2 hts (lw_V q2040 q2042 qs81 q101 q2043) rfl rfl rfl (by decide +kernel) ⟨Nat.le_of_ble_eq_true rfl, Nat.le_of_ble_eq_true rfl⟩) (ci := 0) (q0 := 0) rfl rfl rfl hl.1 rfl (Nat.le_of_ble_eq_true rfl) ⟨Nat.le_of_ble_eq_true rfl, Nat.le_of_ble_eq_true rfl⟩ dX4_capacitorVoltage_18 ?_
    clear hP hD hS
    intro H locs hP hD hS
    clear h_4
    refine lv_goto (tgt := 25) hx hb dX4_capacitorVoltage_21 (by decide) ?_
    exact hret _ _ _ _ _ _ hf dX4_capacitorVoltage_25 hP hD hS
def fX4_greatestPower_L13 (K : Nat) : Nat → Int32 → MS → Option (Int32 × MS)
  | 0, _, _ => none
  | n + 1, x13_1, μ13 =>
    if x13_1 ≤ 0 then
      some ((-2 : Int32), μ13)
    else
      ga (ix (1 : Int32) 254) <|
      b2 (fX4_voltageOf K (μ13.2.2 0 (1 : Int32).toNatClampNeg) x13_1 μ13) fun r_6 μ_4 =>
      if (μ_4.1 8) < r_6 then
        fX4_greatestPower_L13 K n (x13_1 + (-1 : Int32)) μ_4
      else
        some (x13_1, μ_4)
def fX4_greatestPower (K : Nat) (μ : MS) : Option (Int32 × MS) :=
  if (μ.1 3) = 0 then
    some ((-1 : Int32), μ)
  else
    fX4_greatestPower_L13 K K (1500 : Int32) μ
set_option maxHeartbeats 4000000 in
set_option maxRecDepth 100000 in
theorem tX4_greatestPower (l : Launch) (D : va_G) (d : Nat → ClassId) (z : ZT) (o : Nat) (a : Nat → Nat) (K : Nat) (μ : MS) (r : Int32) (μ' : MS) (hf : fX4_greatestPower K μ = some (r, μ')) : CI l yX4_greatestPower (ws_ yX4_greatestPower cX4_greatestPower 2 (Option.some Jvm.ClassFile.FieldType.int)) (rmc 5 0 0 132) D d z [.ref o] (MP d o a μ) r (MP d o a μ') := by
  refine mI_of rfl (by decide) (Nat.le_of_ble_eq_true rfl) ?_
  intro p e s m args below meth c A Q ls S hK hP hD hZ hS hA hl hret
  have hx := S.1
  have hb := S.2.1
  have hts := S.2.2.2.2
  have hl : lv_has ls 2 [(0, .ref o)] := hl
  have L13 : ∀ (n : Nat) (x13_1 : Int32) (μ13 : MS) (H : Heap) (locs : List Loc) (ls : Array Slot), fX4_greatestPower_L13 K n x13_1 μ13 = some (r, μ') → va_P D CL (MP d o a μ13) H → va_D A (MP d o a μ13) → va_S A s.heap H locs → lv_has ls 2 [(0, .ref o), (1, .int x13_1)] → W p l e (rmc 5 0 0 132) s m args below meth c H locs 0 0 Q (F0 m 13 ls []) := by
    intro n
    induction n with
    | zero =>
      intro x13_1 μ13 H locs ls hf hP hD hS hl
      rw [fX4_greatestPower_L13] at hf
      cases hf
    | succ n ih =>
      intro x13_1 μ13 H locs ls hf hP hD hS hl
      rw [fX4_greatestPower_L13] at hf
      refine lv_iload_n hx hb dX4_greatestPower_13 rfl (lv_at hl 1 rfl) ?_
      refine lv_if_le (tgt := 43) hx hb dX4_greatestPower_14 (by decide) (fun c_2 => ?_) (fun c_2 => ?_)
      · replace hf := it_t hf c_2
        clear c_2
        refine lv_bipush (v := -2) hx hb dX4_greatestPower_43 (by decide) ?_
        exact hret _ _ _ _ _ _ hf dX4_greatestPower_45 hP hD hS
      · replace hf := it_f hf c_2
        clear c_2
        refine lv_aload_n hx hb dX4_greatestPower_17 rfl (lv_at hl 0 rfl) ?_
        refine lv_aload_n hx hb dX4_greatestPower_18 rfl (lv_at hl 0 rfl) ?_
        refine m_get S hK hP 0 (by decide) q1600 rfl dX4_greatestPower_19 ?_
        refine lv_iconst (v := 1) hx hb dX4_greatestPower_22 (by decide) ?_
        obtain ⟨g_3, hf⟩ := ga_some hf
        refine m_ild S hK hP 0 1 rfl g_3 dX4_greatestPower_23 ?_
        clear g_3
        refine lv_iload_n hx hb dX4_greatestPower_24 rfl (lv_at hl 1 rfl) ?_
        obtain ⟨r_6, μ_4, h_5, hf⟩ := b2_some hf
        refine ci_call S hK hP hD hZ hS hA (tX4_voltageOf l D d z o a K (μ13.2.2 0 (1 : Int32).toNatClampNeg) x13_1 μ13 _ _ h_5) (cwV 2 hts (lw_V q2040 q2042 qs81 q101 q2043) rfl rfl rfl (by decide +kernel) ⟨Nat.le_of_ble_eq_true rfl, Nat.le_of_ble_eq_true rfl⟩) (ci := 0) (q0 := 0) rfl rfl rfl hl.1 rfl (Nat.le_of_ble_eq_true rfl) ⟨Nat.le_of_ble_eq_true rfl, Nat.le_of_ble_eq_true rfl⟩ dX4_greatestPower_25 ?_
        clear hP hD hS
        intro H locs hP hD hS
        clear h_5
        refine lv_aload_n hx hb dX4_greatestPower_28 rfl (lv_at hl 0 rfl) ?_
        refine m_get S hK hP 8 (by decide) q1608 rfl dX4_greatestPower_29 ?_
        refine lv_icmp_gt (tgt := 37) hx hb dX4_greatestPower_32 (by decide) (fun c_7 => ?_) (fun c_7 => ?_)
        · replace hf := it_t hf c_7
          clear c_7
          refine lv_iinc (v := x13_1 + (-1 : Int32)) (lv' := [(1, .int (x13_1 + (-1 : Int32))), (0, .ref o)]) hx hb dX4_greatestPower_37 hl (k := 1) rfl rfl (by decide) rfl (fun ls hl => ?_)
          refine lv_goto (tgt := 13) hx hb dX4_greatestPower_40 (by decide) ?_
          exact ih (x13_1 + (-1 : Int32)) μ_4 _ _ _ hf hP hD hS (lv_sub hl [1, 0] rfl)
        · replace hf := it_f hf c_7
          clear c_7
          refine lv_iload_n hx hb dX4_greatestPower_35 rfl (lv_at hl 1 rfl) ?_
          exact hret _ _ _ _ _ _ hf dX4_greatestPower_36 hP hD hS
  unfold fX4_greatestPower at hf
  refine lv_aload_n hx hb dX4_greatestPower_0 rfl (lv_at hl 0 rfl) ?_
  refine m_get S hK hP 3 (by decide) q1603 rfl dX4_greatestPower_1 ?_
  refine lv_if_ne (tgt := 9) hx hb dX4_greatestPower_4 (by decide) (fun c_1 => ?_) (fun c_1 => ?_)
  · replace hf := it_f hf c_1
    clear c_1
    refine lv_sipush (v := 1500) hx hb dX4_greatestPower_9 (by decide) ?_
    refine lv_istore_n (lv' := [(1, .int (1500 : Int32)), (0, .ref o)]) hx hb dX4_greatestPower_12 rfl hl (by decide) rfl (fun ls hl => ?_)
    exact L13 K (1500 : Int32) μ _ _ _ hf hP hD hS (lv_sub hl [1, 0] rfl)
  · replace hf := it_t hf c_1
    clear c_1
    refine lv_iconst (v := -1) hx hb dX4_greatestPower_7 (by decide) ?_
    exact hret _ _ _ _ _ _ hf dX4_greatestPower_8 hP hD hS
def fX4_lastMatched_L10 (K : Nat) : Nat → Int32 → Int32 → Int32 → MS → Option (Int32 × MS)
  | 0, _, _, _, _ => none
  | n + 1, x10_1, x10_2, x10_3, μ10 =>
    b1 (fX4_isFrequency K x10_3) fun r_3 =>
    if r_3 = true then
      ga (ix (1 : Int32) 254) <|
      b2 (fX4_ratio K (μ10.2.2 0 (1 : Int32).toNatClampNeg) x10_3 μ10) fun r_9 μ_7 =>
      if (μ_7.1 9) < r_9 then
        some (x10_2, μ_7)
      else
        nm (x10_3 + x10_1) fun v_11 =>
        fX4_lastMatched_L10 K n x10_1 x10_3 v_11 μ_7
    else
      some (x10_2, μ10)
def fX4_lastMatched (K : Nat) (p0 : Int32) (μ : MS) : Option (Int32 × MS) :=
  ga (ix (0 : Int32) 254) <|
  nm (μ.2.2 0 (0 : Int32).toNatClampNeg) fun v_2 =>
  fX4_lastMatched_L10 K K p0 (-2 : Int32) v_2 μ
set_option maxHeartbeats 4000000 in
set_option maxRecDepth 100000 in
theorem tX4_lastMatched (l : Launch) (D : va_G) (d : Nat → ClassId) (z : ZT) (o : Nat) (a : Nat → Nat) (K : Nat) (p0 : Int32) (μ : MS) (r : Int32) (μ' : MS) (hf : fX4_lastMatched K p0 μ = some (r, μ')) : CI l yX4_lastMatched (ws_ yX4_lastMatched cX4_lastMatched 4 (Option.some Jvm.ClassFile.FieldType.int)) (rmc 4 0 0 103) D d z [.ref o, .int p0] (MP d o a μ) r (MP d o a μ') := by
  refine mI_of rfl (by decide) (Nat.le_of_ble_eq_true rfl) ?_
  intro p e s m args below meth c A Q ls S hK hP hD hZ hS hA hl hret
  have hx := S.1
  have hb := S.2.1
  have hts := S.2.2.2.2
  have hl : lv_has ls 4 [(0, .ref o), (1, .int p0)] := hl
  have L10 : ∀ (n : Nat) (x10_1 : Int32) (x10_2 : Int32) (x10_3 : Int32) (μ10 : MS) (H : Heap) (locs : List Loc) (ls : Array Slot), fX4_lastMatched_L10 K n x10_1 x10_2 x10_3 μ10 = some (r, μ') → va_P D CL (MP d o a μ10) H → va_D A (MP d o a μ10) → va_S A s.heap H locs → lv_has ls 4 [(0, .ref o), (1, .int x10_1), (2, .int x10_2), (3, .int x10_3)] → W p l e (rmc 4 0 0 103) s m args below meth c H locs 0 0 Q (F0 m 10 ls []) := by
    intro n
    induction n with
    | zero =>
      intro x10_1 x10_2 x10_3 μ10 H locs ls hf hP hD hS hl
      rw [fX4_lastMatched_L10] at hf
      cases hf
    | succ n ih =>
      intro x10_1 x10_2 x10_3 μ10 H locs ls hf hP hD hS hl
      rw [fX4_lastMatched_L10] at hf
      refine lv_iload_n hx hb dX4_lastMatched_10 rfl (lv_at hl 3 rfl) ?_
      obtain ⟨r_3, h_4, hf⟩ := b1_some hf
      refine si_call S (tX4_isFrequency l K x10_3 _ h_4) (va_cwS 1 hts (lw_S q1870 q1871 q101 q1872) rfl rfl rfl (by decide +kernel) ⟨Nat.le_of_ble_eq_true rfl, Nat.le_of_ble_eq_true rfl⟩) rfl hl.1 rfl (Nat.le_of_ble_eq_true rfl) ⟨Nat.le_of_ble_eq_true rfl, Nat.le_of_ble_eq_true rfl⟩ dX4_lastMatched_11 ?_
      clear h_4
      refine lv_if_eq (tgt := 44) hx hb dX4_lastMatched_14 (by decide) (fun c_5 => ?_) (fun c_5 => ?_)
      · replace hf := it_f hf (bi_e0 c_5)
        clear c_5
        refine lv_iload_n hx hb dX4_lastMatched_44 rfl (lv_at hl 2 rfl) ?_
        exact hret _ _ _ _ _ _ hf dX4_lastMatched_45 hP hD hS
      · replace hf := it_t hf (bi_n0 c_5)
        clear c_5
        refine lv_aload_n hx hb dX4_lastMatched_17 rfl (lv_at hl 0 rfl) ?_
        refine lv_aload_n hx hb dX4_lastMatched_18 rfl (lv_at hl 0 rfl) ?_
        refine m_get S hK hP 0 (by decide) q1600 rfl dX4_lastMatched_19 ?_
        refine lv_iconst (v := 1) hx hb dX4_lastMatched_22 (by decide) ?_
        obtain ⟨g_6, hf⟩ := ga_some hf
        refine m_ild S hK hP 0 1 rfl g_6 dX4_lastMatched_23 ?_
        clear g_6
        refine lv_iload_n hx hb dX4_lastMatched_24 rfl (lv_at hl 3 rfl) ?_
        obtain ⟨r_9, μ_7, h_8, hf⟩ := b2_some hf
        refine ci_call S hK hP hD hZ hS hA (tX4_ratio l D d z o a K (μ10.2.2 0 (1 : Int32).toNatClampNeg) x10_3 μ10 _ _ h_8) (cwV 2 hts (lw_V q2007 q2009 qs79 q101 q2010) rfl rfl rfl (by decide +kernel) ⟨Nat.le_of_ble_eq_true rfl, Nat.le_of_ble_eq_true rfl⟩) (ci := 0) (q0 := 0) rfl rfl rfl hl.1 rfl (Nat.le_of_ble_eq_true rfl) ⟨Nat.le_of_ble_eq_true rfl, Nat.le_of_ble_eq_true rfl⟩ dX4_lastMatched_25 ?_
        clear hP hD hS
        intro H locs hP hD hS
        clear h_8
        refine lv_aload_n hx hb dX4_lastMatched_28 rfl (lv_at hl 0 rfl) ?_
        refine m_get S hK hP 9 (by decide) q1609 rfl dX4_lastMatched_29 ?_
        refine lv_icmp_gt (tgt := 44) hx hb dX4_lastMatched_32 (by decide) (fun c_10 => ?_) (fun c_10 => ?_)
        · replace hf := it_t hf c_10
          clear c_10
          refine lv_iload_n hx hb dX4_lastMatched_44 rfl (lv_at hl 2 rfl) ?_
          exact hret _ _ _ _ _ _ hf dX4_lastMatched_45 hP hD hS
        · replace hf := it_f hf c_10
          clear c_10
          refine lv_iload_n hx hb dX4_lastMatched_35 rfl (lv_at hl 3 rfl) ?_
          refine lv_istore_n (lv' := [(2, .int x10_3), (0, .ref o), (1, .int x10_1), (3, .int x10_3)]) hx hb dX4_lastMatched_36 rfl hl (by decide) rfl (fun ls hl => ?_)
          refine lv_iload_n hx hb dX4_lastMatched_37 rfl (lv_at hl 3 rfl) ?_
          refine lv_iload_n hx hb dX4_lastMatched_38 rfl (lv_at hl 2 rfl) ?_
          refine lv_iadd hx hb dX4_lastMatched_39 ?_
          refine lv_topi (fun v_11 e_ => ?_)
          replace hf := nm_some hf v_11 e_
          clear e_
          refine lv_istore_n (lv' := [(3, .int v_11), (2, .int x10_3), (0, .ref o), (1, .int x10_1)]) hx hb dX4_lastMatched_40 rfl hl (by decide) rfl (fun ls hl => ?_)
          refine lv_goto (tgt := 10) hx hb dX4_lastMatched_41 (by decide) ?_
          exact ih x10_1 x10_3 v_11 μ_7 _ _ _ hf hP hD hS (lv_sub hl [2, 3, 1, 0] rfl)
  unfold fX4_lastMatched at hf
  refine lv_bipush (v := -2) hx hb dX4_lastMatched_0 (by decide) ?_
  refine lv_istore_n (lv' := [(2, .int (-2 : Int32)), (0, .ref o), (1, .int p0)]) hx hb dX4_lastMatched_2 rfl hl (by decide) rfl (fun ls hl => ?_)
  refine lv_aload_n hx hb dX4_lastMatched_3 rfl (lv_at hl 1 rfl) ?_
  refine m_get S hK hP 0 (by decide) q1600 rfl dX4_lastMatched_4 ?_
  refine lv_iconst (v := 0) hx hb dX4_lastMatched_7 (by decide) ?_
  obtain ⟨g_1, hf⟩ := ga_some hf
  refine m_ild S hK hP 0 1 rfl g_1 dX4_lastMatched_8 ?_
  clear g_1
  refine lv_topi (fun v_2 e_ => ?_)
  replace hf := nm_some hf v_2 e_
  clear e_
  refine lv_istore_n (lv' := [(3, .int v_2), (2, .int (-2 : Int32)), (0, .ref o), (1, .int p0)]) hx hb dX4_lastMatched_9 rfl hl (by decide) rfl (fun ls hl => ?_)
  exact L10 K p0 (-2 : Int32) v_2 μ _ _ _ hf hP hD hS (lv_sub hl [2, 3, 1, 0] rfl)
def fX4_highestMatched (K : Nat) (μ : MS) : Option (Int32 × MS) :=
  if (μ.1 3) = 0 then
    some ((-1 : Int32), μ)
  else
    b2 (fX4_lastMatched K (10 : Int32) μ) fun r_4 μ_2 =>
    some (r_4, μ_2)
set_option maxHeartbeats 4000000 in
set_option maxRecDepth 100000 in
theorem tX4_highestMatched (l : Launch) (D : va_G) (d : Nat → ClassId) (z : ZT) (o : Nat) (a : Nat → Nat) (K : Nat) (μ : MS) (r : Int32) (μ' : MS) (hf : fX4_highestMatched K μ = some (r, μ')) : CI l yX4_highestMatched (ws_ yX4_highestMatched cX4_highestMatched 1 (Option.some Jvm.ClassFile.FieldType.int)) (rmc 5 0 0 126) D d z [.ref o] (MP d o a μ) r (MP d o a μ') := by
  refine mI_of rfl (by decide) (Nat.le_of_ble_eq_true rfl) ?_
  intro p e s m args below meth c A Q ls S hK hP hD hZ hS hA hl hret
  have hx := S.1
  have hb := S.2.1
  have hts := S.2.2.2.2
  have hl : lv_has ls 1 [(0, .ref o)] := hl
  unfold fX4_highestMatched at hf
  refine lv_aload_n hx hb dX4_highestMatched_0 rfl (lv_at hl 0 rfl) ?_
  refine m_get S hK hP 3 (by decide) q1603 rfl dX4_highestMatched_1 ?_
  refine lv_if_eq (tgt := 16) hx hb dX4_highestMatched_4 (by decide) (fun c_1 => ?_) (fun c_1 => ?_)
  · replace hf := it_t hf c_1
    clear c_1
    refine lv_iconst (v := -1) hx hb dX4_highestMatched_16 (by decide) ?_
    exact hret _ _ _ _ _ _ hf dX4_highestMatched_17 hP hD hS
  · replace hf := it_f hf c_1
    clear c_1
    refine lv_aload_n hx hb dX4_highestMatched_7 rfl (lv_at hl 0 rfl) ?_
    refine lv_bipush (v := 10) hx hb dX4_highestMatched_8 (by decide) ?_
    obtain ⟨r_4, μ_2, h_3, hf⟩ := b2_some hf
    refine ci_call S hK hP hD hZ hS hA (tX4_lastMatched l D d z o a K (10 : Int32) μ _ _ h_3) (cwV 1 hts (lw_V q2053 q2055 qs82 q101 q2056) rfl rfl rfl (by decide +kernel) ⟨Nat.le_of_ble_eq_true rfl, Nat.le_of_ble_eq_true rfl⟩) (ci := 0) (q0 := 0) rfl rfl rfl hl.1 rfl (Nat.le_of_ble_eq_true rfl) ⟨Nat.le_of_ble_eq_true rfl, Nat.le_of_ble_eq_true rfl⟩ dX4_highestMatched_10 ?_
    clear hP hD hS
    intro H locs hP hD hS
    clear h_3
    refine lv_goto (tgt := 17) hx hb dX4_highestMatched_13 (by decide) ?_
    exact hret _ _ _ _ _ _ hf dX4_highestMatched_17 hP hD hS
def fX4_lowestMatched (K : Nat) (μ : MS) : Option (Int32 × MS) :=
  if (μ.1 3) = 0 then
    some ((-1 : Int32), μ)
  else
    b2 (fX4_lastMatched K (-10 : Int32) μ) fun r_4 μ_2 =>
    some (r_4, μ_2)
set_option maxHeartbeats 4000000 in
set_option maxRecDepth 100000 in
theorem tX4_lowestMatched (l : Launch) (D : va_G) (d : Nat → ClassId) (z : ZT) (o : Nat) (a : Nat → Nat) (K : Nat) (μ : MS) (r : Int32) (μ' : MS) (hf : fX4_lowestMatched K μ = some (r, μ')) : CI l yX4_lowestMatched (ws_ yX4_lowestMatched cX4_lowestMatched 1 (Option.some Jvm.ClassFile.FieldType.int)) (rmc 5 0 0 126) D d z [.ref o] (MP d o a μ) r (MP d o a μ') := by
  refine mI_of rfl (by decide) (Nat.le_of_ble_eq_true rfl) ?_
  intro p e s m args below meth c A Q ls S hK hP hD hZ hS hA hl hret
  have hx := S.1
  have hb := S.2.1
  have hts := S.2.2.2.2
  have hl : lv_has ls 1 [(0, .ref o)] := hl
  unfold fX4_lowestMatched at hf
  refine lv_aload_n hx hb dX4_lowestMatched_0 rfl (lv_at hl 0 rfl) ?_
  refine m_get S hK hP 3 (by decide) q1603 rfl dX4_lowestMatched_1 ?_
  refine lv_if_eq (tgt := 16) hx hb dX4_lowestMatched_4 (by decide) (fun c_1 => ?_) (fun c_1 => ?_)
  · replace hf := it_t hf c_1
    clear c_1
    refine lv_iconst (v := -1) hx hb dX4_lowestMatched_16 (by decide) ?_
    exact hret _ _ _ _ _ _ hf dX4_lowestMatched_17 hP hD hS
  · replace hf := it_f hf c_1
    clear c_1
    refine lv_aload_n hx hb dX4_lowestMatched_7 rfl (lv_at hl 0 rfl) ?_
    refine lv_bipush (v := -10) hx hb dX4_lowestMatched_8 (by decide) ?_
    obtain ⟨r_4, μ_2, h_3, hf⟩ := b2_some hf
    refine ci_call S hK hP hD hZ hS hA (tX4_lastMatched l D d z o a K (-10 : Int32) μ _ _ h_3) (cwV 1 hts (lw_V q2053 q2055 qs82 q101 q2056) rfl rfl rfl (by decide +kernel) ⟨Nat.le_of_ble_eq_true rfl, Nat.le_of_ble_eq_true rfl⟩) (ci := 0) (q0 := 0) rfl rfl rfl hl.1 rfl (Nat.le_of_ble_eq_true rfl) ⟨Nat.le_of_ble_eq_true rfl, Nat.le_of_ble_eq_true rfl⟩ dX4_lowestMatched_10 ?_
    clear hP hD hS
    intro H locs hP hD hS
    clear h_3
    refine lv_goto (tgt := 17) hx hb dX4_lowestMatched_13 (by decide) ?_
    exact hret _ _ _ _ _ _ hf dX4_lowestMatched_17 hP hD hS
def fX4_worstInBand_L42 (K : Nat) : Nat → Int32 → Int32 → Int32 → Int32 → MS → Option (Int32 × MS)
  | 0, _, _, _, _, _ => none
  | n + 1, x42_1, x42_2, x42_3, x42_4, μ42 =>
    ga (ix x42_1 8) <|
    if (μ42.2.2 16 x42_1.toNatClampNeg) < x42_4 then
      some (x42_2, μ42)
    else
      ga (ix (1 : Int32) 254) <|
      b2 (fX4_ratio K (μ42.2.2 0 (1 : Int32).toNatClampNeg) x42_4 μ42) fun r_14 μ_12 =>
      if r_14 ≤ x42_3 then
        fX4_worstInBand_L42 K n x42_1 x42_2 x42_3 (x42_4 + (10 : Int32)) μ_12
      else
        fX4_worstInBand_L42 K n x42_1 x42_4 r_14 (x42_4 + (10 : Int32)) μ_12
def fX4_worstInBand (K : Nat) (p0 : Int32) (μ : MS) : Option (Int32 × MS) :=
  if (μ.1 3) = 0 then
    some ((-1 : Int32), μ)
  else
    b1 (fX4_isIn K p0.toInt64 (0 : Int64) (((μ.1 14) - (1 : Int32)).toInt64)) fun r_2 =>
    if r_2 = true then
      ga (ix p0 8) <|
      nm (μ.2.2 15 p0.toNatClampNeg) fun v_6 =>
      ga (ix p0 8) <|
      nm (μ.2.2 15 p0.toNatClampNeg) fun v_8 =>
      fX4_worstInBand_L42 K K p0 v_6 (0 : Int32) v_8 μ
    else
      some ((-1 : Int32), μ)
set_option maxHeartbeats 4000000 in
set_option maxRecDepth 100000 in
theorem tX4_worstInBand (l : Launch) (D : va_G) (d : Nat → ClassId) (z : ZT) (o : Nat) (a : Nat → Nat) (K : Nat) (p0 : Int32) (μ : MS) (r : Int32) (μ' : MS) (hf : fX4_worstInBand K p0 μ = some (r, μ')) : CI l yX4_worstInBand (ws_ yX4_worstInBand cX4_worstInBand 6 (Option.some Jvm.ClassFile.FieldType.int)) (rmc 4 0 0 103) D d z [.ref o, .int p0] (MP d o a μ) r (MP d o a μ') := by
  refine mI_of rfl (by decide) (Nat.le_of_ble_eq_true rfl) ?_
  intro p e s m args below meth c A Q ls S hK hP hD hZ hS hA hl hret
  have hx := S.1
  have hb := S.2.1
  have hts := S.2.2.2.2
  have hl : lv_has ls 6 [(0, .ref o), (1, .int p0)] := hl
  have L42 : ∀ (n : Nat) (x42_1 : Int32) (x42_2 : Int32) (x42_3 : Int32) (x42_4 : Int32) (μ42 : MS) (H : Heap) (locs : List Loc) (ls : Array Slot), fX4_worstInBand_L42 K n x42_1 x42_2 x42_3 x42_4 μ42 = some (r, μ') → va_P D CL (MP d o a μ42) H → va_D A (MP d o a μ42) → va_S A s.heap H locs → lv_has ls 6 [(0, .ref o), (1, .int x42_1), (2, .int x42_2), (3, .int x42_3), (4, .int x42_4)] → W p l e (rmc 4 0 0 103) s m args below meth c H locs 0 0 Q (F0 m 42 ls []) := by
    intro n
    induction n with
    | zero =>
      intro x42_1 x42_2 x42_3 x42_4 μ42 H locs ls hf hP hD hS hl
      rw [fX4_worstInBand_L42] at hf
      cases hf
    | succ n ih =>
      intro x42_1 x42_2 x42_3 x42_4 μ42 H locs ls hf hP hD hS hl
      rw [fX4_worstInBand_L42] at hf
      refine lv_iload hx hb dX4_worstInBand_42 (lv_at hl 4 rfl) ?_
      refine lv_aload_n hx hb dX4_worstInBand_44 rfl (lv_at hl 0 rfl) ?_
      refine m_get S hK hP 16 (by decide) q1616 rfl dX4_worstInBand_45 ?_
      refine lv_iload_n hx hb dX4_worstInBand_48 rfl (lv_at hl 1 rfl) ?_
      obtain ⟨g_9, hf⟩ := ga_some hf
      refine m_ild S hK hP 16 7 rfl g_9 dX4_worstInBand_49 ?_
      clear g_9
      refine lv_icmp_gt (tgt := 85) hx hb dX4_worstInBand_50 (by decide) (fun c_10 => ?_) (fun c_10 => ?_)
      · replace hf := it_t hf c_10
        clear c_10
        refine lv_iload_n hx hb dX4_worstInBand_85 rfl (lv_at hl 2 rfl) ?_
        exact hret _ _ _ _ _ _ hf dX4_worstInBand_86 hP hD hS
      · replace hf := it_f hf c_10
        clear c_10
        refine lv_aload_n hx hb dX4_worstInBand_53 rfl (lv_at hl 0 rfl) ?_
        refine lv_aload_n hx hb dX4_worstInBand_54 rfl (lv_at hl 0 rfl) ?_
        refine m_get S hK hP 0 (by decide) q1600 rfl dX4_worstInBand_55 ?_
        refine lv_iconst (v := 1) hx hb dX4_worstInBand_58 (by decide) ?_
        obtain ⟨g_11, hf⟩ := ga_some hf
        refine m_ild S hK hP 0 1 rfl g_11 dX4_worstInBand_59 ?_
        clear g_11
        refine lv_iload hx hb dX4_worstInBand_60 (lv_at hl 4 rfl) ?_
        obtain ⟨r_14, μ_12, h_13, hf⟩ := b2_some hf
        refine ci_call S hK hP hD hZ hS hA (tX4_ratio l D d z o a K (μ42.2.2 0 (1 : Int32).toNatClampNeg) x42_4 μ42 _ _ h_13) (cwV 2 hts (lw_V q2007 q2009 qs79 q101 q2010) rfl rfl rfl (by decide +kernel) ⟨Nat.le_of_ble_eq_true rfl, Nat.le_of_ble_eq_true rfl⟩) (ci := 0) (q0 := 0) rfl rfl rfl hl.1 rfl (Nat.le_of_ble_eq_true rfl) ⟨Nat.le_of_ble_eq_true rfl, Nat.le_of_ble_eq_true rfl⟩ dX4_worstInBand_62 ?_
        clear hP hD hS
        intro H locs hP hD hS
        clear h_13
        refine lv_istore (lv' := [(5, .int r_14), (0, .ref o), (1, .int x42_1), (2, .int x42_2), (3, .int x42_3), (4, .int x42_4)]) hx hb dX4_worstInBand_65 hl (by decide) rfl (fun ls hl => ?_)
        refine lv_iload hx hb dX4_worstInBand_67 (lv_at hl 0 rfl) ?_
        refine lv_iload_n hx hb dX4_worstInBand_69 rfl (lv_at hl 4 rfl) ?_
        refine lv_icmp_le (tgt := 79) hx hb dX4_worstInBand_70 (by decide) (fun c_15 => ?_) (fun c_15 => ?_)
        · replace hf := it_t hf c_15
          clear c_15
          refine lv_iinc (v := x42_4 + (10 : Int32)) (lv' := [(4, .int (x42_4 + (10 : Int32))), (5, .int r_14), (0, .ref o), (1, .int x42_1), (2, .int x42_2), (3, .int x42_3)]) hx hb dX4_worstInBand_79 hl (k := 5) rfl rfl (by decide) rfl (fun ls hl => ?_)
          refine lv_goto (tgt := 42) hx hb dX4_worstInBand_82 (by decide) ?_
          exact ih x42_1 x42_2 x42_3 (x42_4 + (10 : Int32)) μ_12 _ _ _ hf hP hD hS (lv_sub hl [2, 3, 4, 5, 0] rfl)
        · replace hf := it_f hf c_15
          clear c_15
          refine lv_iload hx hb dX4_worstInBand_73 (lv_at hl 5 rfl) ?_
          refine lv_istore_n (lv' := [(2, .int x42_4), (5, .int r_14), (0, .ref o), (1, .int x42_1), (3, .int x42_3), (4, .int x42_4)]) hx hb dX4_worstInBand_75 rfl hl (by decide) rfl (fun ls hl => ?_)
          refine lv_iload hx hb dX4_worstInBand_76 (lv_at hl 1 rfl) ?_
          refine lv_istore_n (lv' := [(3, .int r_14), (2, .int x42_4), (5, .int r_14), (0, .ref o), (1, .int x42_1), (4, .int x42_4)]) hx hb dX4_worstInBand_78 rfl hl (by decide) rfl (fun ls hl => ?_)
          refine lv_iinc (v := x42_4 + (10 : Int32)) (lv' := [(4, .int (x42_4 + (10 : Int32))), (3, .int r_14), (2, .int x42_4), (5, .int r_14), (0, .ref o), (1, .int x42_1)]) hx hb dX4_worstInBand_79 hl (k := 5) rfl rfl (by decide) rfl (fun ls hl => ?_)
          refine lv_goto (tgt := 42) hx hb dX4_worstInBand_82 (by decide) ?_
          exact ih x42_1 x42_4 r_14 (x42_4 + (10 : Int32)) μ_12 _ _ _ hf hP hD hS (lv_sub hl [4, 5, 2, 1, 0] rfl)
  unfold fX4_worstInBand at hf
  refine lv_aload_n hx hb dX4_worstInBand_0 rfl (lv_at hl 0 rfl) ?_
  refine m_get S hK hP 3 (by decide) q1603 rfl dX4_worstInBand_1 ?_
  refine lv_if_eq (tgt := 23) hx hb dX4_worstInBand_4 (by decide) (fun c_1 => ?_) (fun c_1 => ?_)
  · replace hf := it_t hf c_1
    clear c_1
    refine lv_iconst (v := -1) hx hb dX4_worstInBand_23 (by decide) ?_
    exact hret _ _ _ _ _ _ hf dX4_worstInBand_24 hP hD hS
  · replace hf := it_f hf c_1
    clear c_1
    refine lv_iload_n hx hb dX4_worstInBand_7 rfl (lv_at hl 1 rfl) ?_
    refine lv_i2l (v := p0.toInt64) hx hb dX4_worstInBand_8 rfl ?_
    refine lv_lconst (v := 0) hx hb dX4_worstInBand_9 (by decide) ?_
    refine lv_aload_n hx hb dX4_worstInBand_10 rfl (lv_at hl 0 rfl) ?_
    refine m_get S hK hP 14 (by decide) q1614 rfl dX4_worstInBand_11 ?_
    refine lv_iconst (v := 1) hx hb dX4_worstInBand_14 (by decide) ?_
    refine lv_isub hx hb dX4_worstInBand_15 ?_
    refine lv_i2l (v := ((μ.1 14) - (1 : Int32)).toInt64) hx hb dX4_worstInBand_16 rfl ?_
    obtain ⟨r_2, h_3, hf⟩ := b1_some hf
    refine si_call S (tX4_isIn l K p0.toInt64 (0 : Int64) (((μ.1 14) - (1 : Int32)).toInt64) _ h_3) (va_cwS 3 hts (lw_S q1754 q1755 q101 q1756) rfl rfl rfl (by decide +kernel) ⟨Nat.le_of_ble_eq_true rfl, Nat.le_of_ble_eq_true rfl⟩) rfl hl.1 rfl (Nat.le_of_ble_eq_true rfl) ⟨Nat.le_of_ble_eq_true rfl, Nat.le_of_ble_eq_true rfl⟩ dX4_worstInBand_17 ?_
    clear h_3
    refine lv_if_ne (tgt := 25) hx hb dX4_worstInBand_20 (by decide) (fun c_4 => ?_) (fun c_4 => ?_)
    · replace hf := it_t hf (bi_n0 c_4)
      clear c_4
      refine lv_aload_n hx hb dX4_worstInBand_25 rfl (lv_at hl 0 rfl) ?_
      refine m_get S hK hP 15 (by decide) q1615 rfl dX4_worstInBand_26 ?_
      refine lv_iload_n hx hb dX4_worstInBand_29 rfl (lv_at hl 1 rfl) ?_
      obtain ⟨g_5, hf⟩ := ga_some hf
      refine m_ild S hK hP 15 6 rfl g_5 dX4_worstInBand_30 ?_
      clear g_5
      refine lv_topi (fun v_6 e_ => ?_)
      replace hf := nm_some hf v_6 e_
      clear e_
      refine lv_istore_n (lv' := [(2, .int v_6), (0, .ref o), (1, .int p0)]) hx hb dX4_worstInBand_31 rfl hl (by decide) rfl (fun ls hl => ?_)
      refine lv_iconst (v := 0) hx hb dX4_worstInBand_32 (by decide) ?_
      refine lv_istore_n (lv' := [(3, .int (0 : Int32)), (2, .int v_6), (0, .ref o), (1, .int p0)]) hx hb dX4_worstInBand_33 rfl hl (by decide) rfl (fun ls hl => ?_)
      refine lv_aload_n hx hb dX4_worstInBand_34 rfl (lv_at hl 2 rfl) ?_
      refine m_get S hK hP 15 (by decide) q1615 rfl dX4_worstInBand_35 ?_
      refine lv_iload_n hx hb dX4_worstInBand_38 rfl (lv_at hl 3 rfl) ?_
      obtain ⟨g_7, hf⟩ := ga_some hf
      refine m_ild S hK hP 15 6 rfl g_7 dX4_worstInBand_39 ?_
      clear g_7
      refine lv_topi (fun v_8 e_ => ?_)
      replace hf := nm_some hf v_8 e_
      clear e_
      refine lv_istore (lv' := [(4, .int v_8), (3, .int (0 : Int32)), (2, .int v_6), (0, .ref o), (1, .int p0)]) hx hb dX4_worstInBand_40 hl (by decide) rfl (fun ls hl => ?_)
      exact L42 K p0 v_6 (0 : Int32) v_8 μ _ _ _ hf hP hD hS (lv_sub hl [3, 4, 2, 1, 0] rfl)
    · replace hf := it_f hf (bi_e0 c_4)
      clear c_4
      refine lv_iconst (v := -1) hx hb dX4_worstInBand_23 (by decide) ?_
      exact hret _ _ _ _ _ _ hf dX4_worstInBand_24 hP hD hS
def fX4_keepReading_L73 (K : Nat) (x73_1 : Int32) (x73_2 : Int32) (μ73 : MS) : Option MS :=
  ga (ix (4 : Int32) 254) <|
  ga (ix ((5 : Int32) + (μ73.2.2 0 (4 : Int32).toNatClampNeg)) 254) <|
  nm (sF μ73 0 (upd (μ73.2.2 0) ((5 : Int32) + (μ73.2.2 0 (4 : Int32).toNatClampNeg)).toNatClampNeg x73_1)) fun μ_5 =>
  ga (ix (4 : Int32) 254) <|
  ga (ix ((105 : Int32) + (μ_5.2.2 0 (4 : Int32).toNatClampNeg)) 254) <|
  nm (sF μ_5 0 (upd (μ_5.2.2 0) ((105 : Int32) + (μ_5.2.2 0 (4 : Int32).toNatClampNeg)).toNatClampNeg x73_2)) fun μ_8 =>
  ga (ix (4 : Int32) 254) <|
  ga (ix (4 : Int32) 254) <|
  nm (sF μ_8 0 (upd (μ_8.2.2 0) (4 : Int32).toNatClampNeg ((μ_8.2.2 0 (4 : Int32).toNatClampNeg) + (1 : Int32)))) fun μ_11 =>
  some μ_11
def fX4_keepReading_L13 (K : Nat) : Nat → Int32 → Int32 → Int32 → MS → Option MS
  | 0, _, _, _, _ => none
  | n + 1, x13_1, x13_2, x13_3, μ13 =>
    if (100 : Int32) ≤ x13_3 then
      ga (ix (4 : Int32) 254) <|
      ga (ix (4 : Int32) 254) <|
      nm (sF μ13 0 (upd (μ13.2.2 0) (4 : Int32).toNatClampNeg ((μ13.2.2 0 (4 : Int32).toNatClampNeg) - (1 : Int32)))) fun μ_15 =>
      fX4_keepReading_L73 K x13_1 x13_2 μ_15
    else
      ga (ix ((5 : Int32) + x13_3) 254) <|
      ga (ix (((5 : Int32) + x13_3) - (1 : Int32)) 254) <|
      nm (sF μ13 0 (upd (μ13.2.2 0) (((5 : Int32) + x13_3) - (1 : Int32)).toNatClampNeg (μ13.2.2 0 ((5 : Int32) + x13_3).toNatClampNeg))) fun μ_18 =>
      ga (ix ((105 : Int32) + x13_3) 254) <|
      ga (ix (((105 : Int32) + x13_3) - (1 : Int32)) 254) <|
      nm (sF μ_18 0 (upd (μ_18.2.2 0) (((105 : Int32) + x13_3) - (1 : Int32)).toNatClampNeg (μ_18.2.2 0 ((105 : Int32) + x13_3).toNatClampNeg))) fun μ_21 =>
      fX4_keepReading_L13 K n x13_1 x13_2 (x13_3 + (1 : Int32)) μ_21
def fX4_keepReading (K : Nat) (p0 : Int32) (p1 : Int32) (μ : MS) : Option MS :=
  ga (ix (4 : Int32) 254) <|
  if (μ.2.2 0 (4 : Int32).toNatClampNeg) = (100 : Int32) then
    fX4_keepReading_L13 K K p0 p1 (1 : Int32) μ
  else
    fX4_keepReading_L73 K p0 p1 μ
set_option maxHeartbeats 4000000 in
set_option maxRecDepth 100000 in
theorem tX4_keepReading (l : Launch) (D : va_G) (d : Nat → ClassId) (z : ZT) (o : Nat) (a : Nat → Nat) (K : Nat) (p0 : Int32) (p1 : Int32) (μ : MS) (μ' : MS) (hf : fX4_keepReading K p0 p1 μ = some μ') : CV l yX4_keepReading (ws_ yX4_keepReading cX4_keepReading 4 (Option.none : Option Jvm.ClassFile.FieldType)) (rmc 0 0 0 0) D d z [.ref o, .int p0, .int p1] (MP d o a μ) (MP d o a μ') := by
  refine mV_of rfl (by decide) (Nat.le_of_ble_eq_true rfl) ?_
  intro p e s m args below meth c A Q ls S hK hP hD hZ hS hA hl hret
  have hx := S.1
  have hb := S.2.1
  have hts := S.2.2.2.2
  have hl : lv_has ls 4 [(0, .ref o), (1, .int p0), (2, .int p1)] := hl
  have L73 : ∀ (x73_1 : Int32) (x73_2 : Int32) (μ73 : MS) (H : Heap) (locs : List Loc) (ls : Array Slot), fX4_keepReading_L73 K x73_1 x73_2 μ73 = some μ' → va_P D CL (MP d o a μ73) H → va_D A (MP d o a μ73) → va_S A s.heap H locs → lv_has ls 4 [(0, .ref o), (1, .int x73_1), (2, .int x73_2)] → W p l e (rmc 0 0 0 0) s m args below meth c H locs 0 0 Q (F0 m 73 ls []) := by
    intro x73_1 x73_2 μ73 H locs ls hf hP hD hS hl
    unfold fX4_keepReading_L73 at hf
    refine lv_aload_n hx hb dX4_keepReading_73 rfl (lv_at hl 0 rfl) ?_
    refine m_get S hK hP 0 (by decide) q1600 rfl dX4_keepReading_74 ?_
    refine lv_iconst (v := 5) hx hb dX4_keepReading_77 (by decide) ?_
    refine lv_aload_n hx hb dX4_keepReading_78 rfl (lv_at hl 0 rfl) ?_
    refine m_get S hK hP 0 (by decide) q1600 rfl dX4_keepReading_79 ?_
    refine lv_iconst (v := 4) hx hb dX4_keepReading_82 (by decide) ?_
    obtain ⟨g_3, hf⟩ := ga_some hf
    refine m_ild S hK hP 0 1 rfl g_3 dX4_keepReading_83 ?_
    clear g_3
    refine lv_iadd hx hb dX4_keepReading_84 ?_
    refine lv_iload_n hx hb dX4_keepReading_85 rfl (lv_at hl 1 rfl) ?_
    obtain ⟨g_4, hf⟩ := ga_some hf
    refine m_ist S hK hP hD hS 0 1 rfl g_4 rfl dX4_keepReading_86 ?_
    clear hP hD hS
    intro μ_5 e_ H locs hP hD hS
    replace hf := nm_some hf μ_5 e_
    clear e_
    clear g_4
    refine lv_aload_n hx hb dX4_keepReading_87 rfl (lv_at hl 0 rfl) ?_
    refine m_get S hK hP 0 (by decide) q1600 rfl dX4_keepReading_88 ?_
    refine lv_bipush (v := 105) hx hb dX4_keepReading_91 (by decide) ?_
    refine lv_aload_n hx hb dX4_keepReading_93 rfl (lv_at hl 0 rfl) ?_
    refine m_get S hK hP 0 (by decide) q1600 rfl dX4_keepReading_94 ?_
    refine lv_iconst (v := 4) hx hb dX4_keepReading_97 (by decide) ?_
    obtain ⟨g_6, hf⟩ := ga_some hf
    refine m_ild S hK hP 0 1 rfl g_6 dX4_keepReading_98 ?_
    clear g_6
    refine lv_iadd hx hb dX4_keepReading_99 ?_
    refine lv_iload_n hx hb dX4_keepReading_100 rfl (lv_at hl 2 rfl) ?_
    obtain ⟨g_7, hf⟩ := ga_some hf
    refine m_ist S hK hP hD hS 0 1 rfl g_7 rfl dX4_keepReading_101 ?_
    clear hP hD hS
    intro μ_8 e_ H locs hP hD hS
    replace hf := nm_some hf μ_8 e_
    clear e_
    clear g_7
    refine lv_aload_n hx hb dX4_keepReading_102 rfl (lv_at hl 0 rfl) ?_
    refine m_get S hK hP 0 (by decide) q1600 rfl dX4_keepReading_103 ?_
    refine lv_iconst (v := 4) hx hb dX4_keepReading_106 (by decide) ?_
    refine lv_dup2_11 hx hb dX4_keepReading_107 rfl rfl ?_
    obtain ⟨g_9, hf⟩ := ga_some hf
    refine m_ild S hK hP 0 1 rfl g_9 dX4_keepReading_108 ?_
    clear g_9
    refine lv_iconst (v := 1) hx hb dX4_keepReading_109 (by decide) ?_
    refine lv_iadd hx hb dX4_keepReading_110 ?_
    obtain ⟨g_10, hf⟩ := ga_some hf
    refine m_ist S hK hP hD hS 0 1 rfl g_10 rfl dX4_keepReading_111 ?_
    clear hP hD hS
    intro μ_11 e_ H locs hP hD hS
    replace hf := nm_some hf μ_11 e_
    clear e_
    clear g_10
    exact hret _ _ _ _ _ hf dX4_keepReading_112 hP hD hS
  have L13 : ∀ (n : Nat) (x13_1 : Int32) (x13_2 : Int32) (x13_3 : Int32) (μ13 : MS) (H : Heap) (locs : List Loc) (ls : Array Slot), fX4_keepReading_L13 K n x13_1 x13_2 x13_3 μ13 = some μ' → va_P D CL (MP d o a μ13) H → va_D A (MP d o a μ13) → va_S A s.heap H locs → lv_has ls 4 [(0, .ref o), (1, .int x13_1), (2, .int x13_2), (3, .int x13_3)] → W p l e (rmc 0 0 0 0) s m args below meth c H locs 0 0 Q (F0 m 13 ls []) := by
    intro n
    induction n with
    | zero =>
      intro x13_1 x13_2 x13_3 μ13 H locs ls hf hP hD hS hl
      rw [fX4_keepReading_L13] at hf
      cases hf
    | succ n ih =>
      intro x13_1 x13_2 x13_3 μ13 H locs ls hf hP hD hS hl
      rw [fX4_keepReading_L13] at hf
      refine lv_iload_n hx hb dX4_keepReading_13 rfl (lv_at hl 3 rfl) ?_
      refine lv_bipush (v := 100) hx hb dX4_keepReading_14 (by decide) ?_
      refine lv_icmp_ge (tgt := 63) hx hb dX4_keepReading_16 (by decide) (fun c_12 => ?_) (fun c_12 => ?_)
      · replace hf := it_t hf c_12
        clear c_12
        refine lv_aload_n hx hb dX4_keepReading_63 rfl (lv_at hl 0 rfl) ?_
        refine m_get S hK hP 0 (by decide) q1600 rfl dX4_keepReading_64 ?_
        refine lv_iconst (v := 4) hx hb dX4_keepReading_67 (by decide) ?_
        refine lv_dup2_11 hx hb dX4_keepReading_68 rfl rfl ?_
        obtain ⟨g_13, hf⟩ := ga_some hf
        refine m_ild S hK hP 0 1 rfl g_13 dX4_keepReading_69 ?_
        clear g_13
        refine lv_iconst (v := 1) hx hb dX4_keepReading_70 (by decide) ?_
        refine lv_isub hx hb dX4_keepReading_71 ?_
        obtain ⟨g_14, hf⟩ := ga_some hf
        refine m_ist S hK hP hD hS 0 1 rfl g_14 rfl dX4_keepReading_72 ?_
        clear hP hD hS
        intro μ_15 e_ H locs hP hD hS
        replace hf := nm_some hf μ_15 e_
        clear e_
        clear g_14
        exact L73 x13_1 x13_2 μ_15 _ _ _ hf hP hD hS (lv_sub hl [0, 1, 2] rfl)
      · replace hf := it_f hf c_12
        clear c_12
        refine lv_aload_n hx hb dX4_keepReading_19 rfl (lv_at hl 0 rfl) ?_
        refine m_get S hK hP 0 (by decide) q1600 rfl dX4_keepReading_20 ?_
        refine lv_iconst (v := 5) hx hb dX4_keepReading_23 (by decide) ?_
        refine lv_iload_n hx hb dX4_keepReading_24 rfl (lv_at hl 3 rfl) ?_
        refine lv_iadd hx hb dX4_keepReading_25 ?_
        refine lv_iconst (v := 1) hx hb dX4_keepReading_26 (by decide) ?_
        refine lv_isub hx hb dX4_keepReading_27 ?_
        refine lv_aload_n hx hb dX4_keepReading_28 rfl (lv_at hl 0 rfl) ?_
        refine m_get S hK hP 0 (by decide) q1600 rfl dX4_keepReading_29 ?_
        refine lv_iconst (v := 5) hx hb dX4_keepReading_32 (by decide) ?_
        refine lv_iload_n hx hb dX4_keepReading_33 rfl (lv_at hl 3 rfl) ?_
        refine lv_iadd hx hb dX4_keepReading_34 ?_
        obtain ⟨g_16, hf⟩ := ga_some hf
        refine m_ild S hK hP 0 1 rfl g_16 dX4_keepReading_35 ?_
        clear g_16
        obtain ⟨g_17, hf⟩ := ga_some hf
        refine m_ist S hK hP hD hS 0 1 rfl g_17 rfl dX4_keepReading_36 ?_
        clear hP hD hS
        intro μ_18 e_ H locs hP hD hS
        replace hf := nm_some hf μ_18 e_
        clear e_
        clear g_17
        refine lv_aload_n hx hb dX4_keepReading_37 rfl (lv_at hl 0 rfl) ?_
        refine m_get S hK hP 0 (by decide) q1600 rfl dX4_keepReading_38 ?_
        refine lv_bipush (v := 105) hx hb dX4_keepReading_41 (by decide) ?_
        refine lv_iload_n hx hb dX4_keepReading_43 rfl (lv_at hl 3 rfl) ?_
        refine lv_iadd hx hb dX4_keepReading_44 ?_
        refine lv_iconst (v := 1) hx hb dX4_keepReading_45 (by decide) ?_
        refine lv_isub hx hb dX4_keepReading_46 ?_
        refine lv_aload_n hx hb dX4_keepReading_47 rfl (lv_at hl 0 rfl) ?_
        refine m_get S hK hP 0 (by decide) q1600 rfl dX4_keepReading_48 ?_
        refine lv_bipush (v := 105) hx hb dX4_keepReading_51 (by decide) ?_
        refine lv_iload_n hx hb dX4_keepReading_53 rfl (lv_at hl 3 rfl) ?_
        refine lv_iadd hx hb dX4_keepReading_54 ?_
        obtain ⟨g_19, hf⟩ := ga_some hf
        refine m_ild S hK hP 0 1 rfl g_19 dX4_keepReading_55 ?_
        clear g_19
        obtain ⟨g_20, hf⟩ := ga_some hf
        refine m_ist S hK hP hD hS 0 1 rfl g_20 rfl dX4_keepReading_56 ?_
        clear hP hD hS
        intro μ_21 e_ H locs hP hD hS
        replace hf := nm_some hf μ_21 e_
        clear e_
        clear g_20
        refine lv_iinc (v := x13_3 + (1 : Int32)) (lv' := [(3, .int (x13_3 + (1 : Int32))), (0, .ref o), (1, .int x13_1), (2, .int x13_2)]) hx hb dX4_keepReading_57 hl (k := 3) rfl rfl (by decide) rfl (fun ls hl => ?_)
        refine lv_goto (tgt := 13) hx hb dX4_keepReading_60 (by decide) ?_
        exact ih x13_1 x13_2 (x13_3 + (1 : Int32)) μ_21 _ _ _ hf hP hD hS (lv_sub hl [1, 2, 3, 0] rfl)
  unfold fX4_keepReading at hf
  refine lv_aload_n hx hb dX4_keepReading_0 rfl (lv_at hl 0 rfl) ?_
  refine m_get S hK hP 0 (by decide) q1600 rfl dX4_keepReading_1 ?_
  refine lv_iconst (v := 4) hx hb dX4_keepReading_4 (by decide) ?_
  obtain ⟨g_1, hf⟩ := ga_some hf
  refine m_ild S hK hP 0 1 rfl g_1 dX4_keepReading_5 ?_
  clear g_1
  refine lv_bipush (v := 100) hx hb dX4_keepReading_6 (by decide) ?_
  refine lv_icmp_ne (tgt := 73) hx hb dX4_keepReading_8 (by decide) (fun c_2 => ?_) (fun c_2 => ?_)
  · replace hf := it_f hf c_2
    clear c_2
    exact L73 p0 p1 μ _ _ _ hf hP hD hS (lv_sub hl [0, 1, 2] rfl)
  · replace hf := it_t hf c_2
    clear c_2
    refine lv_iconst (v := 1) hx hb dX4_keepReading_11 (by decide) ?_
    refine lv_istore_n (lv' := [(3, .int (1 : Int32)), (0, .ref o), (1, .int p0), (2, .int p1)]) hx hb dX4_keepReading_12 rfl hl (by decide) rfl (fun ls hl => ?_)
    exact L13 K p0 p1 (1 : Int32) μ _ _ _ hf hP hD hS (lv_sub hl [1, 2, 3, 0] rfl)
def fX4_transmit_L131 (K : Nat) (k47 : Int32 → Int32 → Int32 → Int32 → Int32 → MS → Option (Int32 × MS)) (t131_0 : Int32) (x131_1 : Int32) (x131_2 : Int32) (x131_3 : Int32) (x131_4 : Int32) (x131_5 : Int32) (μ131 : MS) : Option (Int32 × MS) :=
  ga (ix (3 : Int32) 254) <|
  b1 (fX4_keepReading K t131_0 (μ131.2.2 0 (3 : Int32).toNatClampNeg) μ131) fun μ_23 =>
  ga (ix (3 : Int32) 254) <|
  nm (sF μ_23 0 (upd (μ_23.2.2 0) (3 : Int32).toNatClampNeg (0 : Int32))) fun μ_26 =>
  k47 x131_1 x131_2 x131_3 x131_4 (x131_5 + (1 : Int32)) μ_26
def fX4_transmit_L107 (K : Nat) (k47 : Int32 → Int32 → Int32 → Int32 → Int32 → MS → Option (Int32 × MS)) (x107_1 : Int32) (x107_2 : Int32) (x107_3 : Int32) (x107_4 : Int32) (x107_5 : Int32) (x107_6 : Int32) (μ107 : MS) : Option (Int32 × MS) :=
  if x107_6 = 0 then
    fX4_transmit_L131 K k47 x107_2 x107_1 x107_2 x107_3 x107_4 x107_5 μ107
  else
    b1 (fX4_clamp K ((4 : Int64) * x107_2.toInt64) (0 : Int64) (99999 : Int64)) fun r_27 =>
    fX4_transmit_L131 K k47 r_27.toInt32 x107_1 x107_2 x107_3 x107_4 x107_5 μ107
def fX4_transmit_L90 (K : Nat) (k47 : Int32 → Int32 → Int32 → Int32 → Int32 → MS → Option (Int32 × MS)) (t90_0 : Int32) (x90_1 : Int32) (x90_2 : Int32) (x90_3 : Int32) (x90_4 : Int32) (x90_5 : Int32) (μ90 : MS) : Option (Int32 × MS) :=
  if t90_0 = 0 then
    fX4_transmit_L107 K k47 x90_1 x90_2 x90_3 x90_4 x90_5 t90_0 μ90
  else
    ga (ix (2 : Int32) 254) <|
    nm (sF μ90 0 (upd (μ90.2.2 0) (2 : Int32).toNatClampNeg (0 : Int32))) fun μ_30 =>
    fX4_transmit_L107 K k47 x90_1 x90_2 x90_3 (x90_4 + (1 : Int32)) x90_5 t90_0 μ_30
def fX4_transmit_L74 (K : Nat) (k47 : Int32 → Int32 → Int32 → Int32 → Int32 → MS → Option (Int32 × MS)) (t74_0 : Int32) (t74_1 : Int32) (x74_1 : Int32) (x74_2 : Int32) (x74_3 : Int32) (x74_4 : Int32) (x74_5 : Int32) (μ74 : MS) : Option (Int32 × MS) :=
  ga (ix t74_1 254) <|
  nm (sF μ74 0 (upd (μ74.2.2 0) t74_1.toNatClampNeg t74_0)) fun μ_17 =>
  ga (ix (2 : Int32) 254) <|
  if (μ_17.2.2 0 (2 : Int32).toNatClampNeg) = (3 : Int32) then
    fX4_transmit_L90 K k47 (1 : Int32) x74_1 x74_2 x74_3 x74_4 x74_5 μ_17
  else
    fX4_transmit_L90 K k47 (0 : Int32) x74_1 x74_2 x74_3 x74_4 x74_5 μ_17
def fX4_transmit_L47 (K : Nat) : Nat → Int32 → Int32 → Int32 → Int32 → Int32 → MS → Option (Int32 × MS)
  | 0, _, _, _, _, _, _ => none
  | n + 1, x47_1, x47_2, x47_3, x47_4, x47_5, μ47 =>
    if x47_1 ≤ x47_5 then
      some (x47_4, μ47)
    else
      if x47_3 = 0 then
        fX4_transmit_L74 K (fX4_transmit_L47 K n) (0 : Int32) (2 : Int32) x47_1 x47_2 x47_3 x47_4 x47_5 μ47
      else
        ga (ix (2 : Int32) 254) <|
        fX4_transmit_L74 K (fX4_transmit_L47 K n) ((μ47.2.2 0 (2 : Int32).toNatClampNeg) + (1 : Int32)) (2 : Int32) x47_1 x47_2 x47_3 x47_4 x47_5 μ47
def fX4_transmit (K : Nat) (p0 : Int32) (μ : MS) : Option (Int32 × MS) :=
  if (μ.1 3) = 0 then
    some ((-1 : Int32), μ)
  else
    b1 (fX4_isIn K p0.toInt64 (1 : Int64) (50 : Int64)) fun r_2 =>
    if r_2 = true then
      b1 (fX4_remember K μ) fun μ_5 =>
      b2 (fX4_present K μ_5) fun r_9 μ_7 =>
      ga (ix (1 : Int32) 254) <|
      b2 (fX4_isOverloaded K (μ_7.2.2 0 (1 : Int32).toNatClampNeg) μ_7) fun r_13 μ_11 =>
      fX4_transmit_L47 K K p0 r_9 (bi r_13) (0 : Int32) (0 : Int32) μ_11
    else
      some ((-1 : Int32), μ)
set_option maxHeartbeats 4000000 in
set_option maxRecDepth 100000 in
theorem tX4_transmit (l : Launch) (D : va_G) (d : Nat → ClassId) (z : ZT) (o : Nat) (a : Nat → Nat) (K : Nat) (p0 : Int32) (μ : MS) (r : Int32) (μ' : MS) (hf : fX4_transmit K p0 μ = some (r, μ')) : CI l yX4_transmit (ws_ yX4_transmit cX4_transmit 7 (Option.some Jvm.ClassFile.FieldType.int)) (rmc 6 0 0 153) D d z [.ref o, .int p0] (MP d o a μ) r (MP d o a μ') := by
  refine mI_of rfl (by decide) (Nat.le_of_ble_eq_true rfl) ?_
  intro p e s m args below meth c A Q ls S hK hP hD hZ hS hA hl hret
  have hx := S.1
  have hb := S.2.1
  have hts := S.2.2.2.2
  have hl : lv_has ls 7 [(0, .ref o), (1, .int p0)] := hl
  have L47 : ∀ (n : Nat) (x47_1 : Int32) (x47_2 : Int32) (x47_3 : Int32) (x47_4 : Int32) (x47_5 : Int32) (μ47 : MS) (H : Heap) (locs : List Loc) (ls : Array Slot), fX4_transmit_L47 K n x47_1 x47_2 x47_3 x47_4 x47_5 μ47 = some (r, μ') → va_P D CL (MP d o a μ47) H → va_D A (MP d o a μ47) → va_S A s.heap H locs → lv_has ls 7 [(0, .ref o), (1, .int x47_1), (2, .int x47_2), (3, .int x47_3), (4, .int x47_4), (5, .int x47_5)] → W p l e (rmc 6 0 0 153) s m args below meth c H locs 0 0 Q (F0 m 47 ls []) := by
    intro n
    induction n with
    | zero =>
      intro x47_1 x47_2 x47_3 x47_4 x47_5 μ47 H locs ls hf hP hD hS hl
      rw [fX4_transmit_L47] at hf
      cases hf
    | succ n ih =>
      have ih47 := ih
      have L131 : ∀ (t131_0 : Int32) (x131_1 : Int32) (x131_2 : Int32) (x131_3 : Int32) (x131_4 : Int32) (x131_5 : Int32) (μ131 : MS) (H : Heap) (locs : List Loc) (ls : Array Slot), fX4_transmit_L131 K (fX4_transmit_L47 K n) t131_0 x131_1 x131_2 x131_3 x131_4 x131_5 μ131 = some (r, μ') → va_P D CL (MP d o a μ131) H → va_D A (MP d o a μ131) → va_S A s.heap H locs → lv_has ls 7 [(0, .ref o), (1, .int x131_1), (2, .int x131_2), (3, .int x131_3), (4, .int x131_4), (5, .int x131_5)] → W p l e (rmc 6 0 0 153) s m args below meth c H locs 0 0 Q (F0 m 131 ls [.int t131_0, .ref o]) := by
        intro t131_0 x131_1 x131_2 x131_3 x131_4 x131_5 μ131 H locs ls hf hP hD hS hl
        unfold fX4_transmit_L131 at hf
        refine lv_aload_n hx hb dX4_transmit_131 rfl (lv_at hl 0 rfl) ?_
        refine m_get S hK hP 0 (by decide) q1600 rfl dX4_transmit_132 ?_
        refine lv_iconst (v := 3) hx hb dX4_transmit_135 (by decide) ?_
        obtain ⟨g_22, hf⟩ := ga_some hf
        refine m_ild S hK hP 0 1 rfl g_22 dX4_transmit_136 ?_
        clear g_22
        obtain ⟨μ_23, h_24, hf⟩ := b1_some hf
        refine cv_call S hK hP hD hZ hS hA (tX4_keepReading l D d z o a K t131_0 (μ131.2.2 0 (3 : Int32).toNatClampNeg) μ131 _ h_24) (cwV 2 hts (lw_V q2075 q2077 qs84 q101 q2078) rfl rfl rfl (by decide +kernel) ⟨Nat.le_of_ble_eq_true rfl, Nat.le_of_ble_eq_true rfl⟩) (ci := 0) (q0 := 0) rfl rfl rfl hl.1 rfl (Nat.le_of_ble_eq_true rfl) ⟨Nat.le_of_ble_eq_true rfl, Nat.le_of_ble_eq_true rfl⟩ dX4_transmit_137 ?_
        clear hP hD hS
        intro H locs hP hD hS
        clear h_24
        refine lv_aload_n hx hb dX4_transmit_140 rfl (lv_at hl 0 rfl) ?_
        refine m_get S hK hP 0 (by decide) q1600 rfl dX4_transmit_141 ?_
        refine lv_iconst (v := 3) hx hb dX4_transmit_144 (by decide) ?_
        refine lv_iconst (v := 0) hx hb dX4_transmit_145 (by decide) ?_
        obtain ⟨g_25, hf⟩ := ga_some hf
        refine m_ist S hK hP hD hS 0 1 rfl g_25 rfl dX4_transmit_146 ?_
        clear hP hD hS
        intro μ_26 e_ H locs hP hD hS
        replace hf := nm_some hf μ_26 e_
        clear e_
        clear g_25
        refine lv_iinc (v := x131_5 + (1 : Int32)) (lv' := [(5, .int (x131_5 + (1 : Int32))), (0, .ref o), (1, .int x131_1), (2, .int x131_2), (3, .int x131_3), (4, .int x131_4)]) hx hb dX4_transmit_147 hl (k := 5) rfl rfl (by decide) rfl (fun ls hl => ?_)
        refine lv_goto (tgt := 47) hx hb dX4_transmit_150 (by decide) ?_
        exact ih47 x131_1 x131_2 x131_3 x131_4 (x131_5 + (1 : Int32)) μ_26 _ _ _ hf hP hD hS (lv_sub hl [1, 2, 3, 4, 5, 0] rfl)
      have L107 : ∀ (x107_1 : Int32) (x107_2 : Int32) (x107_3 : Int32) (x107_4 : Int32) (x107_5 : Int32) (x107_6 : Int32) (μ107 : MS) (H : Heap) (locs : List Loc) (ls : Array Slot), fX4_transmit_L107 K (fX4_transmit_L47 K n) x107_1 x107_2 x107_3 x107_4 x107_5 x107_6 μ107 = some (r, μ') → va_P D CL (MP d o a μ107) H → va_D A (MP d o a μ107) → va_S A s.heap H locs → lv_has ls 7 [(0, .ref o), (1, .int x107_1), (2, .int x107_2), (3, .int x107_3), (4, .int x107_4), (5, .int x107_5), (6, .int x107_6)] → W p l e (rmc 6 0 0 153) s m args below meth c H locs 0 0 Q (F0 m 107 ls []) := by
        intro x107_1 x107_2 x107_3 x107_4 x107_5 x107_6 μ107 H locs ls hf hP hD hS hl
        unfold fX4_transmit_L107 at hf
        refine lv_aload_n hx hb dX4_transmit_107 rfl (lv_at hl 0 rfl) ?_
        refine lv_iload hx hb dX4_transmit_108 (lv_at hl 6 rfl) ?_
        refine lv_if_eq (tgt := 130) hx hb dX4_transmit_110 (by decide) (fun c_21 => ?_) (fun c_21 => ?_)
        · replace hf := it_t hf c_21
          clear c_21
          refine lv_iload_n hx hb dX4_transmit_130 rfl (lv_at hl 2 rfl) ?_
          exact L131 x107_2 x107_1 x107_2 x107_3 x107_4 x107_5 μ107 _ _ _ hf hP hD hS (lv_sub hl [0, 1, 2, 3, 4, 5] rfl)
        · replace hf := it_f hf c_21
          clear c_21
          refine lv_ldc2 hx hb S.2.2.2.1 (hts _ q2074) dX4_transmit_113 ?_
          refine lv_iload_n hx hb dX4_transmit_116 rfl (lv_at hl 2 rfl) ?_
          refine lv_i2l (v := x107_2.toInt64) hx hb dX4_transmit_117 rfl ?_
          refine lv_lmul hx hb dX4_transmit_118 ?_
          refine lv_lconst (v := 0) hx hb dX4_transmit_119 (by decide) ?_
          refine lv_ldc2 hx hb S.2.2.2.1 (hts _ q2018) dX4_transmit_120 ?_
          obtain ⟨r_27, h_28, hf⟩ := b1_some hf
          refine sj_call S (tX4_clamp l K ((4 : Int64) * x107_2.toInt64) (0 : Int64) (99999 : Int64) _ h_28) (va_cwS 3 hts (lw_S q1987 q1988 q101 q1989) rfl rfl rfl (by decide +kernel) ⟨Nat.le_of_ble_eq_true rfl, Nat.le_of_ble_eq_true rfl⟩) rfl hl.1 rfl (Nat.le_of_ble_eq_true rfl) ⟨Nat.le_of_ble_eq_true rfl, Nat.le_of_ble_eq_true rfl⟩ dX4_transmit_123 ?_
          clear h_28
          refine lv_l2i (v := r_27.toInt32) hx hb dX4_transmit_126 rfl ?_
          refine lv_goto (tgt := 131) hx hb dX4_transmit_127 (by decide) ?_
          exact L131 r_27.toInt32 x107_1 x107_2 x107_3 x107_4 x107_5 μ107 _ _ _ hf hP hD hS (lv_sub hl [0, 1, 2, 3, 4, 5] rfl)
      have L90 : ∀ (t90_0 : Int32) (x90_1 : Int32) (x90_2 : Int32) (x90_3 : Int32) (x90_4 : Int32) (x90_5 : Int32) (μ90 : MS) (H : Heap) (locs : List Loc) (ls : Array Slot), fX4_transmit_L90 K (fX4_transmit_L47 K n) t90_0 x90_1 x90_2 x90_3 x90_4 x90_5 μ90 = some (r, μ') → va_P D CL (MP d o a μ90) H → va_D A (MP d o a μ90) → va_S A s.heap H locs → lv_has ls 7 [(0, .ref o), (1, .int x90_1), (2, .int x90_2), (3, .int x90_3), (4, .int x90_4), (5, .int x90_5)] → W p l e (rmc 6 0 0 153) s m args below meth c H locs 0 0 Q (F0 m 90 ls [.int t90_0]) := by
        intro t90_0 x90_1 x90_2 x90_3 x90_4 x90_5 μ90 H locs ls hf hP hD hS hl
        unfold fX4_transmit_L90 at hf
        refine lv_istore (lv' := [(6, .int t90_0), (0, .ref o), (1, .int x90_1), (2, .int x90_2), (3, .int x90_3), (4, .int x90_4), (5, .int x90_5)]) hx hb dX4_transmit_90 hl (by decide) rfl (fun ls hl => ?_)
        refine lv_iload hx hb dX4_transmit_92 (lv_at hl 0 rfl) ?_
        refine lv_if_eq (tgt := 107) hx hb dX4_transmit_94 (by decide) (fun c_20 => ?_) (fun c_20 => ?_)
        · replace hf := it_t hf c_20
          clear c_20
          exact L107 x90_1 x90_2 x90_3 x90_4 x90_5 t90_0 μ90 _ _ _ hf hP hD hS (lv_sub hl [1, 2, 3, 4, 5, 6, 0] rfl)
        · replace hf := it_f hf c_20
          clear c_20
          refine lv_aload_n hx hb dX4_transmit_97 rfl (lv_at hl 1 rfl) ?_
          refine m_get S hK hP 0 (by decide) q1600 rfl dX4_transmit_98 ?_
          refine lv_iconst (v := 2) hx hb dX4_transmit_101 (by decide) ?_
          refine lv_iconst (v := 0) hx hb dX4_transmit_102 (by decide) ?_
          obtain ⟨g_29, hf⟩ := ga_some hf
          refine m_ist S hK hP hD hS 0 1 rfl g_29 rfl dX4_transmit_103 ?_
          clear hP hD hS
          intro μ_30 e_ H locs hP hD hS
          replace hf := nm_some hf μ_30 e_
          clear e_
          clear g_29
          refine lv_iinc (v := x90_4 + (1 : Int32)) (lv' := [(4, .int (x90_4 + (1 : Int32))), (6, .int t90_0), (0, .ref o), (1, .int x90_1), (2, .int x90_2), (3, .int x90_3), (5, .int x90_5)]) hx hb dX4_transmit_104 hl (k := 5) rfl rfl (by decide) rfl (fun ls hl => ?_)
          exact L107 x90_1 x90_2 x90_3 (x90_4 + (1 : Int32)) x90_5 t90_0 μ_30 _ _ _ hf hP hD hS (lv_sub hl [2, 3, 4, 5, 0, 6, 1] rfl)
      have L74 : ∀ (t74_0 : Int32) (t74_1 : Int32) (x74_1 : Int32) (x74_2 : Int32) (x74_3 : Int32) (x74_4 : Int32) (x74_5 : Int32) (μ74 : MS) (H : Heap) (locs : List Loc) (ls : Array Slot), fX4_transmit_L74 K (fX4_transmit_L47 K n) t74_0 t74_1 x74_1 x74_2 x74_3 x74_4 x74_5 μ74 = some (r, μ') → va_P D CL (MP d o a μ74) H → va_D A (MP d o a μ74) → va_S A s.heap H locs → lv_has ls 7 [(0, .ref o), (1, .int x74_1), (2, .int x74_2), (3, .int x74_3), (4, .int x74_4), (5, .int x74_5)] → W p l e (rmc 6 0 0 153) s m args below meth c H locs 0 0 Q (F0 m 74 ls [.int t74_0, .int t74_1, .ref (a 0)]) := by
        intro t74_0 t74_1 x74_1 x74_2 x74_3 x74_4 x74_5 μ74 H locs ls hf hP hD hS hl
        unfold fX4_transmit_L74 at hf
        obtain ⟨g_16, hf⟩ := ga_some hf
        refine m_ist S hK hP hD hS 0 1 rfl g_16 rfl dX4_transmit_74 ?_
        clear hP hD hS
        intro μ_17 e_ H locs hP hD hS
        replace hf := nm_some hf μ_17 e_
        clear e_
        clear g_16
        refine lv_aload_n hx hb dX4_transmit_75 rfl (lv_at hl 0 rfl) ?_
        refine m_get S hK hP 0 (by decide) q1600 rfl dX4_transmit_76 ?_
        refine lv_iconst (v := 2) hx hb dX4_transmit_79 (by decide) ?_
        obtain ⟨g_18, hf⟩ := ga_some hf
        refine m_ild S hK hP 0 1 rfl g_18 dX4_transmit_80 ?_
        clear g_18
        refine lv_iconst (v := 3) hx hb dX4_transmit_81 (by decide) ?_
        refine lv_icmp_ne (tgt := 89) hx hb dX4_transmit_82 (by decide) (fun c_19 => ?_) (fun c_19 => ?_)
        · replace hf := it_f hf c_19
          clear c_19
          refine lv_iconst (v := 0) hx hb dX4_transmit_89 (by decide) ?_
          exact L90 (0 : Int32) x74_1 x74_2 x74_3 x74_4 x74_5 μ_17 _ _ _ hf hP hD hS (lv_sub hl [0, 1, 2, 3, 4, 5] rfl)
        · replace hf := it_t hf c_19
          clear c_19
          refine lv_iconst (v := 1) hx hb dX4_transmit_85 (by decide) ?_
          refine lv_goto (tgt := 90) hx hb dX4_transmit_86 (by decide) ?_
          exact L90 (1 : Int32) x74_1 x74_2 x74_3 x74_4 x74_5 μ_17 _ _ _ hf hP hD hS (lv_sub hl [0, 1, 2, 3, 4, 5] rfl)
      intro x47_1 x47_2 x47_3 x47_4 x47_5 μ47 H locs ls hf hP hD hS hl
      rw [fX4_transmit_L47] at hf
      refine lv_iload hx hb dX4_transmit_47 (lv_at hl 5 rfl) ?_
      refine lv_iload_n hx hb dX4_transmit_49 rfl (lv_at hl 1 rfl) ?_
      refine lv_icmp_ge (tgt := 153) hx hb dX4_transmit_50 (by decide) (fun c_14 => ?_) (fun c_14 => ?_)
      · replace hf := it_t hf c_14
        clear c_14
        refine lv_iload hx hb dX4_transmit_153 (lv_at hl 4 rfl) ?_
        exact hret _ _ _ _ _ _ hf dX4_transmit_155 hP hD hS
      · replace hf := it_f hf c_14
        clear c_14
        refine lv_aload_n hx hb dX4_transmit_53 rfl (lv_at hl 0 rfl) ?_
        refine m_get S hK hP 0 (by decide) q1600 rfl dX4_transmit_54 ?_
        refine lv_iconst (v := 2) hx hb dX4_transmit_57 (by decide) ?_
        refine lv_iload_n hx hb dX4_transmit_58 rfl (lv_at hl 3 rfl) ?_
        refine lv_if_eq (tgt := 73) hx hb dX4_transmit_59 (by decide) (fun c_15 => ?_) (fun c_15 => ?_)
        · replace hf := it_t hf c_15
          clear c_15
          refine lv_iconst (v := 0) hx hb dX4_transmit_73 (by decide) ?_
          exact L74 (0 : Int32) (2 : Int32) x47_1 x47_2 x47_3 x47_4 x47_5 μ47 _ _ _ hf hP hD hS (lv_sub hl [0, 1, 2, 3, 4, 5] rfl)
        · replace hf := it_f hf c_15
          clear c_15
          refine lv_aload_n hx hb dX4_transmit_62 rfl (lv_at hl 0 rfl) ?_
          refine m_get S hK hP 0 (by decide) q1600 rfl dX4_transmit_63 ?_
          refine lv_iconst (v := 2) hx hb dX4_transmit_66 (by decide) ?_
          obtain ⟨g_31, hf⟩ := ga_some hf
          refine m_ild S hK hP 0 1 rfl g_31 dX4_transmit_67 ?_
          clear g_31
          refine lv_iconst (v := 1) hx hb dX4_transmit_68 (by decide) ?_
          refine lv_iadd hx hb dX4_transmit_69 ?_
          refine lv_goto (tgt := 74) hx hb dX4_transmit_70 (by decide) ?_
          exact L74 ((μ47.2.2 0 (2 : Int32).toNatClampNeg) + (1 : Int32)) (2 : Int32) x47_1 x47_2 x47_3 x47_4 x47_5 μ47 _ _ _ hf hP hD hS (lv_sub hl [0, 1, 2, 3, 4, 5] rfl)
  unfold fX4_transmit at hf
  refine lv_aload_n hx hb dX4_transmit_0 rfl (lv_at hl 0 rfl) ?_
  refine m_get S hK hP 3 (by decide) q1603 rfl dX4_transmit_1 ?_
  refine lv_if_eq (tgt := 19) hx hb dX4_transmit_4 (by decide) (fun c_1 => ?_) (fun c_1 => ?_)
  · replace hf := it_t hf c_1
    clear c_1
    refine lv_iconst (v := -1) hx hb dX4_transmit_19 (by decide) ?_
    exact hret _ _ _ _ _ _ hf dX4_transmit_20 hP hD hS
  · replace hf := it_f hf c_1
    clear c_1
    refine lv_iload_n hx hb dX4_transmit_7 rfl (lv_at hl 1 rfl) ?_
    refine lv_i2l (v := p0.toInt64) hx hb dX4_transmit_8 rfl ?_
    refine lv_lconst (v := 1) hx hb dX4_transmit_9 (by decide) ?_
    refine lv_ldc2 hx hb S.2.2.2.1 (hts _ q2069) dX4_transmit_10 ?_
    obtain ⟨r_2, h_3, hf⟩ := b1_some hf
    refine si_call S (tX4_isIn l K p0.toInt64 (1 : Int64) (50 : Int64) _ h_3) (va_cwS 3 hts (lw_S q1754 q1755 q101 q1756) rfl rfl rfl (by decide +kernel) ⟨Nat.le_of_ble_eq_true rfl, Nat.le_of_ble_eq_true rfl⟩) rfl hl.1 rfl (Nat.le_of_ble_eq_true rfl) ⟨Nat.le_of_ble_eq_true rfl, Nat.le_of_ble_eq_true rfl⟩ dX4_transmit_13 ?_
    clear h_3
    refine lv_if_ne (tgt := 21) hx hb dX4_transmit_16 (by decide) (fun c_4 => ?_) (fun c_4 => ?_)
    · replace hf := it_t hf (bi_n0 c_4)
      clear c_4
      refine lv_aload_n hx hb dX4_transmit_21 rfl (lv_at hl 0 rfl) ?_
      obtain ⟨μ_5, h_6, hf⟩ := b1_some hf
      refine cv_call S hK hP hD hZ hS hA (tX4_remember l D d z o a K μ _ h_6) (cwV 0 hts (lw_V q1922 q1924 qs73 q101 q1925) rfl rfl rfl (by decide +kernel) ⟨Nat.le_of_ble_eq_true rfl, Nat.le_of_ble_eq_true rfl⟩) (ci := 0) (q0 := 0) rfl rfl rfl hl.1 rfl (Nat.le_of_ble_eq_true rfl) ⟨Nat.le_of_ble_eq_true rfl, Nat.le_of_ble_eq_true rfl⟩ dX4_transmit_22 ?_
      clear hP hD hS
      intro H locs hP hD hS
      clear h_6
      refine lv_aload_n hx hb dX4_transmit_25 rfl (lv_at hl 0 rfl) ?_
      obtain ⟨r_9, μ_7, h_8, hf⟩ := b2_some hf
      refine ci_call S hK hP hD hZ hS hA (tX4_present l D d z o a K μ_5 _ _ h_8) (cwV 0 hts (lw_V q2003 q2005 qs78 q101 q2006) rfl rfl rfl (by decide +kernel) ⟨Nat.le_of_ble_eq_true rfl, Nat.le_of_ble_eq_true rfl⟩) (ci := 0) (q0 := 0) rfl rfl rfl hl.1 rfl (Nat.le_of_ble_eq_true rfl) ⟨Nat.le_of_ble_eq_true rfl, Nat.le_of_ble_eq_true rfl⟩ dX4_transmit_26 ?_
      clear hP hD hS
      intro H locs hP hD hS
      clear h_8
      refine lv_istore_n (lv' := [(2, .int r_9), (0, .ref o), (1, .int p0)]) hx hb dX4_transmit_29 rfl hl (by decide) rfl (fun ls hl => ?_)
      refine lv_aload_n hx hb dX4_transmit_30 rfl (lv_at hl 1 rfl) ?_
      refine lv_aload_n hx hb dX4_transmit_31 rfl (lv_at hl 1 rfl) ?_
      refine m_get S hK hP 0 (by decide) q1600 rfl dX4_transmit_32 ?_
      refine lv_iconst (v := 1) hx hb dX4_transmit_35 (by decide) ?_
      obtain ⟨g_10, hf⟩ := ga_some hf
      refine m_ild S hK hP 0 1 rfl g_10 dX4_transmit_36 ?_
      clear g_10
      obtain ⟨r_13, μ_11, h_12, hf⟩ := b2_some hf
      refine ci_call S hK hP hD hZ hS hA (tX4_isOverloaded l D d z o a K (μ_7.2.2 0 (1 : Int32).toNatClampNeg) μ_7 _ _ h_12) (cwV 1 hts (lw_V q2070 q2072 qs83 q101 q2073) rfl rfl rfl (by decide +kernel) ⟨Nat.le_of_ble_eq_true rfl, Nat.le_of_ble_eq_true rfl⟩) (ci := 0) (q0 := 0) rfl rfl rfl hl.1 rfl (Nat.le_of_ble_eq_true rfl) ⟨Nat.le_of_ble_eq_true rfl, Nat.le_of_ble_eq_true rfl⟩ dX4_transmit_37 ?_
      clear hP hD hS
      intro H locs hP hD hS
      clear h_12
      refine lv_istore_n (lv' := [(3, .int (bi r_13)), (2, .int r_9), (0, .ref o), (1, .int p0)]) hx hb dX4_transmit_40 rfl hl (by decide) rfl (fun ls hl => ?_)
      refine lv_iconst (v := 0) hx hb dX4_transmit_41 (by decide) ?_
      refine lv_istore (lv' := [(4, .int (0 : Int32)), (3, .int (bi r_13)), (2, .int r_9), (0, .ref o), (1, .int p0)]) hx hb dX4_transmit_42 hl (by decide) rfl (fun ls hl => ?_)
      refine lv_iconst (v := 0) hx hb dX4_transmit_44 (by decide) ?_
      refine lv_istore (lv' := [(5, .int (0 : Int32)), (4, .int (0 : Int32)), (3, .int (bi r_13)), (2, .int r_9), (0, .ref o), (1, .int p0)]) hx hb dX4_transmit_45 hl (by decide) rfl (fun ls hl => ?_)
      exact L47 K p0 r_9 (bi r_13) (0 : Int32) (0 : Int32) μ_11 _ _ _ hf hP hD hS (lv_sub hl [4, 5, 3, 2, 1, 0] rfl)
    · replace hf := it_f hf (bi_e0 c_4)
      clear c_4
      refine lv_iconst (v := -1) hx hb dX4_transmit_19 (by decide) ?_
      exact hret _ _ _ _ _ _ hf dX4_transmit_20 hP hD hS
def fX4_readingCount (K : Nat) (μ : MS) : Option (Int32 × MS) :=
  if (μ.1 3) = 0 then
    some ((-1 : Int32), μ)
  else
    ga (ix (4 : Int32) 254) <|
    some (μ.2.2 0 (4 : Int32).toNatClampNeg, μ)
set_option maxHeartbeats 4000000 in
set_option maxRecDepth 100000 in
theorem tX4_readingCount (l : Launch) (D : va_G) (d : Nat → ClassId) (z : ZT) (o : Nat) (a : Nat → Nat) (K : Nat) (μ : MS) (r : Int32) (μ' : MS) (hf : fX4_readingCount K μ = some (r, μ')) : CI l yX4_readingCount (ws_ yX4_readingCount cX4_readingCount 1 (Option.some Jvm.ClassFile.FieldType.int)) (rmc 0 0 0 0) D d z [.ref o] (MP d o a μ) r (MP d o a μ') := by
  refine mI_of rfl (by decide) (Nat.le_of_ble_eq_true rfl) ?_
  intro p e s m args below meth c A Q ls S hK hP hD hZ hS hA hl hret
  have hx := S.1
  have hb := S.2.1
  have hts := S.2.2.2.2
  have hl : lv_has ls 1 [(0, .ref o)] := hl
  unfold fX4_readingCount at hf
  refine lv_aload_n hx hb dX4_readingCount_0 rfl (lv_at hl 0 rfl) ?_
  refine m_get S hK hP 3 (by decide) q1603 rfl dX4_readingCount_1 ?_
  refine lv_if_eq (tgt := 16) hx hb dX4_readingCount_4 (by decide) (fun c_1 => ?_) (fun c_1 => ?_)
  · replace hf := it_t hf c_1
    clear c_1
    refine lv_iconst (v := -1) hx hb dX4_readingCount_16 (by decide) ?_
    exact hret _ _ _ _ _ _ hf dX4_readingCount_17 hP hD hS
  · replace hf := it_f hf c_1
    clear c_1
    refine lv_aload_n hx hb dX4_readingCount_7 rfl (lv_at hl 0 rfl) ?_
    refine m_get S hK hP 0 (by decide) q1600 rfl dX4_readingCount_8 ?_
    refine lv_iconst (v := 4) hx hb dX4_readingCount_11 (by decide) ?_
    obtain ⟨g_2, hf⟩ := ga_some hf
    refine m_ild S hK hP 0 1 rfl g_2 dX4_readingCount_12 ?_
    clear g_2
    refine lv_goto (tgt := 17) hx hb dX4_readingCount_13 (by decide) ?_
    exact hret _ _ _ _ _ _ hf dX4_readingCount_17 hP hD hS
def fX4_reading (K : Nat) (p0 : Int32) (μ : MS) : Option (Int32 × MS) :=
  if (μ.1 3) = 0 then
    some ((-1 : Int32), μ)
  else
    ga (ix (4 : Int32) 254) <|
    b1 (fX4_isIn K p0.toInt64 (0 : Int64) (((μ.2.2 0 (4 : Int32).toNatClampNeg) - (1 : Int32)).toInt64)) fun r_3 =>
    if r_3 = true then
      ga (ix (4 : Int32) 254) <|
      ga (ix ((((5 : Int32) + (μ.2.2 0 (4 : Int32).toNatClampNeg)) - (1 : Int32)) - p0) 254) <|
      some (μ.2.2 0 ((((5 : Int32) + (μ.2.2 0 (4 : Int32).toNatClampNeg)) - (1 : Int32)) - p0).toNatClampNeg, μ)
    else
      some ((-1 : Int32), μ)
set_option maxHeartbeats 4000000 in
set_option maxRecDepth 100000 in
theorem tX4_reading (l : Launch) (D : va_G) (d : Nat → ClassId) (z : ZT) (o : Nat) (a : Nat → Nat) (K : Nat) (p0 : Int32) (μ : MS) (r : Int32) (μ' : MS) (hf : fX4_reading K p0 μ = some (r, μ')) : CI l yX4_reading (ws_ yX4_reading cX4_reading 2 (Option.some Jvm.ClassFile.FieldType.int)) (rmc 1 0 0 25) D d z [.ref o, .int p0] (MP d o a μ) r (MP d o a μ') := by
  refine mI_of rfl (by decide) (Nat.le_of_ble_eq_true rfl) ?_
  intro p e s m args below meth c A Q ls S hK hP hD hZ hS hA hl hret
  have hx := S.1
  have hb := S.2.1
  have hts := S.2.2.2.2
  have hl : lv_has ls 2 [(0, .ref o), (1, .int p0)] := hl
  unfold fX4_reading at hf
  refine lv_aload_n hx hb dX4_reading_0 rfl (lv_at hl 0 rfl) ?_
  refine m_get S hK hP 3 (by decide) q1603 rfl dX4_reading_1 ?_
  refine lv_if_eq (tgt := 25) hx hb dX4_reading_4 (by decide) (fun c_1 => ?_) (fun c_1 => ?_)
  · replace hf := it_t hf c_1
    clear c_1
    refine lv_iconst (v := -1) hx hb dX4_reading_25 (by decide) ?_
    exact hret _ _ _ _ _ _ hf dX4_reading_26 hP hD hS
  · replace hf := it_f hf c_1
    clear c_1
    refine lv_iload_n hx hb dX4_reading_7 rfl (lv_at hl 1 rfl) ?_
    refine lv_i2l (v := p0.toInt64) hx hb dX4_reading_8 rfl ?_
    refine lv_lconst (v := 0) hx hb dX4_reading_9 (by decide) ?_
    refine lv_aload_n hx hb dX4_reading_10 rfl (lv_at hl 0 rfl) ?_
    refine m_get S hK hP 0 (by decide) q1600 rfl dX4_reading_11 ?_
    refine lv_iconst (v := 4) hx hb dX4_reading_14 (by decide) ?_
    obtain ⟨g_2, hf⟩ := ga_some hf
    refine m_ild S hK hP 0 1 rfl g_2 dX4_reading_15 ?_
    clear g_2
    refine lv_iconst (v := 1) hx hb dX4_reading_16 (by decide) ?_
    refine lv_isub hx hb dX4_reading_17 ?_
    refine lv_i2l (v := ((μ.2.2 0 (4 : Int32).toNatClampNeg) - (1 : Int32)).toInt64) hx hb dX4_reading_18 rfl ?_
    obtain ⟨r_3, h_4, hf⟩ := b1_some hf
    refine si_call S (tX4_isIn l K p0.toInt64 (0 : Int64) (((μ.2.2 0 (4 : Int32).toNatClampNeg) - (1 : Int32)).toInt64) _ h_4) (va_cwS 3 hts (lw_S q1754 q1755 q101 q1756) rfl rfl rfl (by decide +kernel) ⟨Nat.le_of_ble_eq_true rfl, Nat.le_of_ble_eq_true rfl⟩) rfl hl.1 rfl (Nat.le_of_ble_eq_true rfl) ⟨Nat.le_of_ble_eq_true rfl, Nat.le_of_ble_eq_true rfl⟩ dX4_reading_19 ?_
    clear h_4
    refine lv_if_ne (tgt := 27) hx hb dX4_reading_22 (by decide) (fun c_5 => ?_) (fun c_5 => ?_)
    · replace hf := it_t hf (bi_n0 c_5)
      clear c_5
      refine lv_aload_n hx hb dX4_reading_27 rfl (lv_at hl 0 rfl) ?_
      refine m_get S hK hP 0 (by decide) q1600 rfl dX4_reading_28 ?_
      refine lv_iconst (v := 5) hx hb dX4_reading_31 (by decide) ?_
      refine lv_aload_n hx hb dX4_reading_32 rfl (lv_at hl 0 rfl) ?_
      refine m_get S hK hP 0 (by decide) q1600 rfl dX4_reading_33 ?_
      refine lv_iconst (v := 4) hx hb dX4_reading_36 (by decide) ?_
      obtain ⟨g_6, hf⟩ := ga_some hf
      refine m_ild S hK hP 0 1 rfl g_6 dX4_reading_37 ?_
      clear g_6
      refine lv_iadd hx hb dX4_reading_38 ?_
      refine lv_iconst (v := 1) hx hb dX4_reading_39 (by decide) ?_
      refine lv_isub hx hb dX4_reading_40 ?_
      refine lv_iload_n hx hb dX4_reading_41 rfl (lv_at hl 1 rfl) ?_
      refine lv_isub hx hb dX4_reading_42 ?_
      obtain ⟨g_7, hf⟩ := ga_some hf
      refine m_ild S hK hP 0 1 rfl g_7 dX4_reading_43 ?_
      clear g_7
      exact hret _ _ _ _ _ _ hf dX4_reading_44 hP hD hS
    · replace hf := it_f hf (bi_e0 c_5)
      clear c_5
      refine lv_iconst (v := -1) hx hb dX4_reading_25 (by decide) ?_
      exact hret _ _ _ _ _ _ hf dX4_reading_26 hP hD hS
def fX4_heat (K : Nat) (μ : MS) : Option (Int32 × MS) :=
  if (μ.1 3) = 0 then
    some ((-1 : Int32), μ)
  else
    ga (ix (2 : Int32) 254) <|
    some (μ.2.2 0 (2 : Int32).toNatClampNeg, μ)
set_option maxHeartbeats 4000000 in
set_option maxRecDepth 100000 in
theorem tX4_heat (l : Launch) (D : va_G) (d : Nat → ClassId) (z : ZT) (o : Nat) (a : Nat → Nat) (K : Nat) (μ : MS) (r : Int32) (μ' : MS) (hf : fX4_heat K μ = some (r, μ')) : CI l yX4_heat (ws_ yX4_heat cX4_heat 1 (Option.some Jvm.ClassFile.FieldType.int)) (rmc 0 0 0 0) D d z [.ref o] (MP d o a μ) r (MP d o a μ') := by
  refine mI_of rfl (by decide) (Nat.le_of_ble_eq_true rfl) ?_
  intro p e s m args below meth c A Q ls S hK hP hD hZ hS hA hl hret
  have hx := S.1
  have hb := S.2.1
  have hts := S.2.2.2.2
  have hl : lv_has ls 1 [(0, .ref o)] := hl
  unfold fX4_heat at hf
  refine lv_aload_n hx hb dX4_heat_0 rfl (lv_at hl 0 rfl) ?_
  refine m_get S hK hP 3 (by decide) q1603 rfl dX4_heat_1 ?_
  refine lv_if_eq (tgt := 16) hx hb dX4_heat_4 (by decide) (fun c_1 => ?_) (fun c_1 => ?_)
  · replace hf := it_t hf c_1
    clear c_1
    refine lv_iconst (v := -1) hx hb dX4_heat_16 (by decide) ?_
    exact hret _ _ _ _ _ _ hf dX4_heat_17 hP hD hS
  · replace hf := it_f hf c_1
    clear c_1
    refine lv_aload_n hx hb dX4_heat_7 rfl (lv_at hl 0 rfl) ?_
    refine m_get S hK hP 0 (by decide) q1600 rfl dX4_heat_8 ?_
    refine lv_iconst (v := 2) hx hb dX4_heat_11 (by decide) ?_
    obtain ⟨g_2, hf⟩ := ga_some hf
    refine m_ild S hK hP 0 1 rfl g_2 dX4_heat_12 ?_
    clear g_2
    refine lv_goto (tgt := 17) hx hb dX4_heat_13 (by decide) ?_
    exact hret _ _ _ _ _ _ hf dX4_heat_17 hP hD hS
def fX4_arcsNoticed_L73 (K : Nat) (k27 : Int32 → Int32 → Int32 → MS → Option (Int32 × MS)) (t73_0 : Int32) (x73_1 : Int32) (x73_2 : Int32) (x73_3 : Int32) (μ73 : MS) : Option (Int32 × MS) :=
  ga (ix ((105 : Int32) + x73_3) 254) <|
  if (μ73.2.2 0 ((105 : Int32) + x73_3).toNatClampNeg) = 0 then
    if t73_0 = 0 then
      k27 x73_1 x73_2 (x73_3 + (1 : Int32)) μ73
    else
      k27 x73_1 (x73_2 + (1 : Int32)) (x73_3 + (1 : Int32)) μ73
  else
    k27 x73_1 x73_2 (x73_3 + (1 : Int32)) μ73
def fX4_arcsNoticed_L27 (K : Nat) : Nat → Int32 → Int32 → Int32 → MS → Option (Int32 × MS)
  | 0, _, _, _, _ => none
  | n + 1, x27_1, x27_2, x27_3, μ27 =>
    ga (ix (4 : Int32) 254) <|
    if (μ27.2.2 0 (4 : Int32).toNatClampNeg) ≤ x27_3 then
      some (x27_2, μ27)
    else
      ga (ix ((5 : Int32) + x27_3) 254) <|
      ga (ix (((5 : Int32) + x27_3) - (1 : Int32)) 254) <|
      if ((10 : Int64) * ((μ27.2.2 0 ((5 : Int32) + x27_3).toNatClampNeg).toInt64)) < (x27_1.toInt64 * ((μ27.2.2 0 (((5 : Int32) + x27_3) - (1 : Int32)).toNatClampNeg).toInt64)) then
        fX4_arcsNoticed_L73 K (fX4_arcsNoticed_L27 K n) (0 : Int32) x27_1 x27_2 x27_3 μ27
      else
        fX4_arcsNoticed_L73 K (fX4_arcsNoticed_L27 K n) (1 : Int32) x27_1 x27_2 x27_3 μ27
def fX4_arcsNoticed (K : Nat) (p0 : Int32) (μ : MS) : Option (Int32 × MS) :=
  if (μ.1 3) = 0 then
    some ((-1 : Int32), μ)
  else
    b1 (fX4_isIn K p0.toInt64 (11 : Int64) (100 : Int64)) fun r_2 =>
    if r_2 = true then
      fX4_arcsNoticed_L27 K K p0 (0 : Int32) (1 : Int32) μ
    else
      some ((-1 : Int32), μ)
set_option maxHeartbeats 4000000 in
set_option maxRecDepth 100000 in
theorem tX4_arcsNoticed (l : Launch) (D : va_G) (d : Nat → ClassId) (z : ZT) (o : Nat) (a : Nat → Nat) (K : Nat) (p0 : Int32) (μ : MS) (r : Int32) (μ' : MS) (hf : fX4_arcsNoticed K p0 μ = some (r, μ')) : CI l yX4_arcsNoticed (ws_ yX4_arcsNoticed cX4_arcsNoticed 5 (Option.some Jvm.ClassFile.FieldType.int)) (rmc 1 0 0 25) D d z [.ref o, .int p0] (MP d o a μ) r (MP d o a μ') := by
  refine mI_of rfl (by decide) (Nat.le_of_ble_eq_true rfl) ?_
  intro p e s m args below meth c A Q ls S hK hP hD hZ hS hA hl hret
  have hx := S.1
  have hb := S.2.1
  have hts := S.2.2.2.2
  have hl : lv_has ls 5 [(0, .ref o), (1, .int p0)] := hl
  have L27 : ∀ (n : Nat) (x27_1 : Int32) (x27_2 : Int32) (x27_3 : Int32) (μ27 : MS) (H : Heap) (locs : List Loc) (ls : Array Slot), fX4_arcsNoticed_L27 K n x27_1 x27_2 x27_3 μ27 = some (r, μ') → va_P D CL (MP d o a μ27) H → va_D A (MP d o a μ27) → va_S A s.heap H locs → lv_has ls 5 [(0, .ref o), (1, .int x27_1), (2, .int x27_2), (3, .int x27_3)] → W p l e (rmc 1 0 0 25) s m args below meth c H locs 0 0 Q (F0 m 27 ls []) := by
    intro n
    induction n with
    | zero =>
      intro x27_1 x27_2 x27_3 μ27 H locs ls hf hP hD hS hl
      rw [fX4_arcsNoticed_L27] at hf
      cases hf
    | succ n ih =>
      have ih27 := ih
      have L73 : ∀ (t73_0 : Int32) (x73_1 : Int32) (x73_2 : Int32) (x73_3 : Int32) (μ73 : MS) (H : Heap) (locs : List Loc) (ls : Array Slot), fX4_arcsNoticed_L73 K (fX4_arcsNoticed_L27 K n) t73_0 x73_1 x73_2 x73_3 μ73 = some (r, μ') → va_P D CL (MP d o a μ73) H → va_D A (MP d o a μ73) → va_S A s.heap H locs → lv_has ls 5 [(0, .ref o), (1, .int x73_1), (2, .int x73_2), (3, .int x73_3)] → W p l e (rmc 1 0 0 25) s m args below meth c H locs 0 0 Q (F0 m 73 ls [.int t73_0]) := by
        intro t73_0 x73_1 x73_2 x73_3 μ73 H locs ls hf hP hD hS hl
        unfold fX4_arcsNoticed_L73 at hf
        refine lv_istore (lv' := [(4, .int t73_0), (0, .ref o), (1, .int x73_1), (2, .int x73_2), (3, .int x73_3)]) hx hb dX4_arcsNoticed_73 hl (by decide) rfl (fun ls hl => ?_)
        refine lv_aload_n hx hb dX4_arcsNoticed_75 rfl (lv_at hl 1 rfl) ?_
        refine m_get S hK hP 0 (by decide) q1600 rfl dX4_arcsNoticed_76 ?_
        refine lv_bipush (v := 105) hx hb dX4_arcsNoticed_79 (by decide) ?_
        refine lv_iload_n hx hb dX4_arcsNoticed_81 rfl (lv_at hl 4 rfl) ?_
        refine lv_iadd hx hb dX4_arcsNoticed_82 ?_
        obtain ⟨g_10, hf⟩ := ga_some hf
        refine m_ild S hK hP 0 1 rfl g_10 dX4_arcsNoticed_83 ?_
        clear g_10
        refine lv_if_ne (tgt := 95) hx hb dX4_arcsNoticed_84 (by decide) (fun c_11 => ?_) (fun c_11 => ?_)
        · replace hf := it_f hf c_11
          clear c_11
          refine lv_iinc (v := x73_3 + (1 : Int32)) (lv' := [(3, .int (x73_3 + (1 : Int32))), (4, .int t73_0), (0, .ref o), (1, .int x73_1), (2, .int x73_2)]) hx hb dX4_arcsNoticed_95 hl (k := 4) rfl rfl (by decide) rfl (fun ls hl => ?_)
          refine lv_goto (tgt := 27) hx hb dX4_arcsNoticed_98 (by decide) ?_
          exact ih27 x73_1 x73_2 (x73_3 + (1 : Int32)) μ73 _ _ _ hf hP hD hS (lv_sub hl [2, 3, 4, 0] rfl)
        · replace hf := it_t hf c_11
          clear c_11
          refine lv_iload hx hb dX4_arcsNoticed_87 (lv_at hl 0 rfl) ?_
          refine lv_if_eq (tgt := 95) hx hb dX4_arcsNoticed_89 (by decide) (fun c_12 => ?_) (fun c_12 => ?_)
          · replace hf := it_t hf c_12
            clear c_12
            refine lv_iinc (v := x73_3 + (1 : Int32)) (lv' := [(3, .int (x73_3 + (1 : Int32))), (4, .int t73_0), (0, .ref o), (1, .int x73_1), (2, .int x73_2)]) hx hb dX4_arcsNoticed_95 hl (k := 4) rfl rfl (by decide) rfl (fun ls hl => ?_)
            refine lv_goto (tgt := 27) hx hb dX4_arcsNoticed_98 (by decide) ?_
            exact ih27 x73_1 x73_2 (x73_3 + (1 : Int32)) μ73 _ _ _ hf hP hD hS (lv_sub hl [2, 3, 4, 0] rfl)
          · replace hf := it_f hf c_12
            clear c_12
            refine lv_iinc (v := x73_2 + (1 : Int32)) (lv' := [(2, .int (x73_2 + (1 : Int32))), (4, .int t73_0), (0, .ref o), (1, .int x73_1), (3, .int x73_3)]) hx hb dX4_arcsNoticed_92 hl (k := 3) rfl rfl (by decide) rfl (fun ls hl => ?_)
            refine lv_iinc (v := x73_3 + (1 : Int32)) (lv' := [(3, .int (x73_3 + (1 : Int32))), (2, .int (x73_2 + (1 : Int32))), (4, .int t73_0), (0, .ref o), (1, .int x73_1)]) hx hb dX4_arcsNoticed_95 hl (k := 4) rfl rfl (by decide) rfl (fun ls hl => ?_)
            refine lv_goto (tgt := 27) hx hb dX4_arcsNoticed_98 (by decide) ?_
            exact ih27 x73_1 (x73_2 + (1 : Int32)) (x73_3 + (1 : Int32)) μ73 _ _ _ hf hP hD hS (lv_sub hl [3, 4, 1, 0] rfl)
      intro x27_1 x27_2 x27_3 μ27 H locs ls hf hP hD hS hl
      rw [fX4_arcsNoticed_L27] at hf
      refine lv_iload_n hx hb dX4_arcsNoticed_27 rfl (lv_at hl 3 rfl) ?_
      refine lv_aload_n hx hb dX4_arcsNoticed_28 rfl (lv_at hl 0 rfl) ?_
      refine m_get S hK hP 0 (by decide) q1600 rfl dX4_arcsNoticed_29 ?_
      refine lv_iconst (v := 4) hx hb dX4_arcsNoticed_32 (by decide) ?_
      obtain ⟨g_5, hf⟩ := ga_some hf
      refine m_ild S hK hP 0 1 rfl g_5 dX4_arcsNoticed_33 ?_
      clear g_5
      refine lv_icmp_ge (tgt := 101) hx hb dX4_arcsNoticed_34 (by decide) (fun c_6 => ?_) (fun c_6 => ?_)
      · replace hf := it_t hf c_6
        clear c_6
        refine lv_iload_n hx hb dX4_arcsNoticed_101 rfl (lv_at hl 2 rfl) ?_
        exact hret _ _ _ _ _ _ hf dX4_arcsNoticed_102 hP hD hS
      · replace hf := it_f hf c_6
        clear c_6
        refine lv_ldc2 hx hb S.2.2.2.1 (hts _ q2096) dX4_arcsNoticed_37 ?_
        refine lv_aload_n hx hb dX4_arcsNoticed_40 rfl (lv_at hl 0 rfl) ?_
        refine m_get S hK hP 0 (by decide) q1600 rfl dX4_arcsNoticed_41 ?_
        refine lv_iconst (v := 5) hx hb dX4_arcsNoticed_44 (by decide) ?_
        refine lv_iload_n hx hb dX4_arcsNoticed_45 rfl (lv_at hl 3 rfl) ?_
        refine lv_iadd hx hb dX4_arcsNoticed_46 ?_
        obtain ⟨g_7, hf⟩ := ga_some hf
        refine m_ild S hK hP 0 1 rfl g_7 dX4_arcsNoticed_47 ?_
        clear g_7
        refine lv_i2l (v := (μ27.2.2 0 ((5 : Int32) + x27_3).toNatClampNeg).toInt64) hx hb dX4_arcsNoticed_48 rfl ?_
        refine lv_lmul hx hb dX4_arcsNoticed_49 ?_
        refine lv_iload_n hx hb dX4_arcsNoticed_50 rfl (lv_at hl 1 rfl) ?_
        refine lv_i2l (v := x27_1.toInt64) hx hb dX4_arcsNoticed_51 rfl ?_
        refine lv_aload_n hx hb dX4_arcsNoticed_52 rfl (lv_at hl 0 rfl) ?_
        refine m_get S hK hP 0 (by decide) q1600 rfl dX4_arcsNoticed_53 ?_
        refine lv_iconst (v := 5) hx hb dX4_arcsNoticed_56 (by decide) ?_
        refine lv_iload_n hx hb dX4_arcsNoticed_57 rfl (lv_at hl 3 rfl) ?_
        refine lv_iadd hx hb dX4_arcsNoticed_58 ?_
        refine lv_iconst (v := 1) hx hb dX4_arcsNoticed_59 (by decide) ?_
        refine lv_isub hx hb dX4_arcsNoticed_60 ?_
        obtain ⟨g_8, hf⟩ := ga_some hf
        refine m_ild S hK hP 0 1 rfl g_8 dX4_arcsNoticed_61 ?_
        clear g_8
        refine lv_i2l (v := (μ27.2.2 0 (((5 : Int32) + x27_3) - (1 : Int32)).toNatClampNeg).toInt64) hx hb dX4_arcsNoticed_62 rfl ?_
        refine lv_lmul hx hb dX4_arcsNoticed_63 ?_
        refine g_lcmp_lt (tgt := 72) hx hb dX4_arcsNoticed_64 dX4_arcsNoticed_65 (by decide) (fun c_9 => ?_) (fun c_9 => ?_)
        · replace hf := it_t hf c_9
          clear c_9
          refine lv_iconst (v := 0) hx hb dX4_arcsNoticed_72 (by decide) ?_
          exact L73 (0 : Int32) x27_1 x27_2 x27_3 μ27 _ _ _ hf hP hD hS (lv_sub hl [0, 1, 2, 3] rfl)
        · replace hf := it_f hf c_9
          clear c_9
          refine lv_iconst (v := 1) hx hb dX4_arcsNoticed_68 (by decide) ?_
          refine lv_goto (tgt := 73) hx hb dX4_arcsNoticed_69 (by decide) ?_
          exact L73 (1 : Int32) x27_1 x27_2 x27_3 μ27 _ _ _ hf hP hD hS (lv_sub hl [0, 1, 2, 3] rfl)
  unfold fX4_arcsNoticed at hf
  refine lv_aload_n hx hb dX4_arcsNoticed_0 rfl (lv_at hl 0 rfl) ?_
  refine m_get S hK hP 3 (by decide) q1603 rfl dX4_arcsNoticed_1 ?_
  refine lv_if_eq (tgt := 21) hx hb dX4_arcsNoticed_4 (by decide) (fun c_1 => ?_) (fun c_1 => ?_)
  · replace hf := it_t hf c_1
    clear c_1
    refine lv_iconst (v := -1) hx hb dX4_arcsNoticed_21 (by decide) ?_
    exact hret _ _ _ _ _ _ hf dX4_arcsNoticed_22 hP hD hS
  · replace hf := it_f hf c_1
    clear c_1
    refine lv_iload_n hx hb dX4_arcsNoticed_7 rfl (lv_at hl 1 rfl) ?_
    refine lv_i2l (v := p0.toInt64) hx hb dX4_arcsNoticed_8 rfl ?_
    refine lv_ldc2 hx hb S.2.2.2.1 (hts _ q2095) dX4_arcsNoticed_9 ?_
    refine lv_ldc2 hx hb S.2.2.2.1 (hts _ q1901) dX4_arcsNoticed_12 ?_
    obtain ⟨r_2, h_3, hf⟩ := b1_some hf
    refine si_call S (tX4_isIn l K p0.toInt64 (11 : Int64) (100 : Int64) _ h_3) (va_cwS 3 hts (lw_S q1754 q1755 q101 q1756) rfl rfl rfl (by decide +kernel) ⟨Nat.le_of_ble_eq_true rfl, Nat.le_of_ble_eq_true rfl⟩) rfl hl.1 rfl (Nat.le_of_ble_eq_true rfl) ⟨Nat.le_of_ble_eq_true rfl, Nat.le_of_ble_eq_true rfl⟩ dX4_arcsNoticed_15 ?_
    clear h_3
    refine lv_if_ne (tgt := 23) hx hb dX4_arcsNoticed_18 (by decide) (fun c_4 => ?_) (fun c_4 => ?_)
    · replace hf := it_t hf (bi_n0 c_4)
      clear c_4
      refine lv_iconst (v := 0) hx hb dX4_arcsNoticed_23 (by decide) ?_
      refine lv_istore_n (lv' := [(2, .int (0 : Int32)), (0, .ref o), (1, .int p0)]) hx hb dX4_arcsNoticed_24 rfl hl (by decide) rfl (fun ls hl => ?_)
      refine lv_iconst (v := 1) hx hb dX4_arcsNoticed_25 (by decide) ?_
      refine lv_istore_n (lv' := [(3, .int (1 : Int32)), (2, .int (0 : Int32)), (0, .ref o), (1, .int p0)]) hx hb dX4_arcsNoticed_26 rfl hl (by decide) rfl (fun ls hl => ?_)
      exact L27 K p0 (0 : Int32) (1 : Int32) μ _ _ _ hf hP hD hS (lv_sub hl [2, 3, 1, 0] rfl)
    · replace hf := it_f hf (bi_e0 c_4)
      clear c_4
      refine lv_iconst (v := -1) hx hb dX4_arcsNoticed_21 (by decide) ?_
      exact hret _ _ _ _ _ _ hf dX4_arcsNoticed_22 hP hD hS
def fX4_tryOne_L58 (K : Nat) (x58_4 : Int32) (x58_5 : Int32) (μ58 : MS) : Option MS :=
  nm (sI μ58 42 x58_4) fun μ_12 =>
  nm (sI μ_12 43 x58_5) fun μ_13 =>
  some μ_13
def fX4_tryOne (K : Nat) (p0 : Int32) (p1 : Int32) (p2 : Int32) (μ : MS) : Option MS :=
  b1 (fX4_areSettings K p0 p1 p2) fun r_1 =>
  if r_1 = true then
    b1 (fX4_together K p0 p1 p2) fun r_4 =>
    ga (ix (0 : Int32) 254) <|
    b2 (fX4_ratio K r_4 (μ.2.2 0 (0 : Int32).toNatClampNeg) μ) fun r_9 μ_7 =>
    nm (sI μ_7 39 ((μ_7.1 39) + (1 : Int32))) fun μ_10 =>
    if (μ_10.1 42) < 0 then
      fX4_tryOne_L58 K r_4 r_9 μ_10
    else
      if (μ_10.1 43) ≤ r_9 then
        some μ_10
      else
        fX4_tryOne_L58 K r_4 r_9 μ_10
  else
    some μ
set_option maxHeartbeats 4000000 in
set_option maxRecDepth 100000 in
theorem tX4_tryOne (l : Launch) (D : va_G) (d : Nat → ClassId) (z : ZT) (o : Nat) (a : Nat → Nat) (K : Nat) (p0 : Int32) (p1 : Int32) (p2 : Int32) (μ : MS) (μ' : MS) (hf : fX4_tryOne K p0 p1 p2 μ = some μ') : CV l yX4_tryOne (ws_ yX4_tryOne cX4_tryOne 6 (Option.none : Option Jvm.ClassFile.FieldType)) (rmc 4 0 0 103) D d z [.ref o, .int p0, .int p1, .int p2] (MP d o a μ) (MP d o a μ') := by
  refine mV_of rfl (by decide) (Nat.le_of_ble_eq_true rfl) ?_
  intro p e s m args below meth c A Q ls S hK hP hD hZ hS hA hl hret
  have hx := S.1
  have hb := S.2.1
  have hts := S.2.2.2.2
  have hl : lv_has ls 6 [(0, .ref o), (1, .int p0), (2, .int p1), (3, .int p2)] := hl
  have L58 : ∀ (x58_4 : Int32) (x58_5 : Int32) (μ58 : MS) (H : Heap) (locs : List Loc) (ls : Array Slot), fX4_tryOne_L58 K x58_4 x58_5 μ58 = some μ' → va_P D CL (MP d o a μ58) H → va_D A (MP d o a μ58) → va_S A s.heap H locs → lv_has ls 6 [(0, .ref o), (4, .int x58_4), (5, .int x58_5)] → W p l e (rmc 4 0 0 103) s m args below meth c H locs 0 0 Q (F0 m 58 ls []) := by
    intro x58_4 x58_5 μ58 H locs ls hf hP hD hS hl
    unfold fX4_tryOne_L58 at hf
    refine lv_aload_n hx hb dX4_tryOne_58 rfl (lv_at hl 0 rfl) ?_
    refine lv_iload hx hb dX4_tryOne_59 (lv_at hl 1 rfl) ?_
    refine m_putI S hK hP hD hS 42 (by decide) q1642 rfl rfl rfl rfl rfl dX4_tryOne_61 ?_
    clear hP hD hS
    intro μ_12 e_ H locs hP hD hS
    replace hf := nm_some hf μ_12 e_
    clear e_
    refine lv_aload_n hx hb dX4_tryOne_64 rfl (lv_at hl 0 rfl) ?_
    refine lv_iload hx hb dX4_tryOne_65 (lv_at hl 2 rfl) ?_
    refine m_putI S hK hP hD hS 43 (by decide) q1643 rfl rfl rfl rfl rfl dX4_tryOne_67 ?_
    clear hP hD hS
    intro μ_13 e_ H locs hP hD hS
    replace hf := nm_some hf μ_13 e_
    clear e_
    exact hret _ _ _ _ _ hf dX4_tryOne_70 hP hD hS
  unfold fX4_tryOne at hf
  refine lv_iload_n hx hb dX4_tryOne_0 rfl (lv_at hl 1 rfl) ?_
  refine lv_iload_n hx hb dX4_tryOne_1 rfl (lv_at hl 2 rfl) ?_
  refine lv_iload_n hx hb dX4_tryOne_2 rfl (lv_at hl 3 rfl) ?_
  obtain ⟨r_1, h_2, hf⟩ := b1_some hf
  refine si_call S (tX4_areSettings l K p0 p1 p2 _ h_2) (va_cwS 3 hts (lw_S q1967 q1968 q101 q1969) rfl rfl rfl (by decide +kernel) ⟨Nat.le_of_ble_eq_true rfl, Nat.le_of_ble_eq_true rfl⟩) rfl hl.1 rfl (Nat.le_of_ble_eq_true rfl) ⟨Nat.le_of_ble_eq_true rfl, Nat.le_of_ble_eq_true rfl⟩ dX4_tryOne_3 ?_
  clear h_2
  refine lv_if_ne (tgt := 10) hx hb dX4_tryOne_6 (by decide) (fun c_3 => ?_) (fun c_3 => ?_)
  · replace hf := it_t hf (bi_n0 c_3)
    clear c_3
    refine lv_iload_n hx hb dX4_tryOne_10 rfl (lv_at hl 1 rfl) ?_
    refine lv_iload_n hx hb dX4_tryOne_11 rfl (lv_at hl 2 rfl) ?_
    refine lv_iload_n hx hb dX4_tryOne_12 rfl (lv_at hl 3 rfl) ?_
    obtain ⟨r_4, h_5, hf⟩ := b1_some hf
    refine si_call S (tX4_together l K p0 p1 p2 _ h_5) (va_cwS 3 hts (lw_S q1940 q1941 q101 q1942) rfl rfl rfl (by decide +kernel) ⟨Nat.le_of_ble_eq_true rfl, Nat.le_of_ble_eq_true rfl⟩) rfl hl.1 rfl (Nat.le_of_ble_eq_true rfl) ⟨Nat.le_of_ble_eq_true rfl, Nat.le_of_ble_eq_true rfl⟩ dX4_tryOne_13 ?_
    clear h_5
    refine lv_istore (lv' := [(4, .int r_4), (0, .ref o), (1, .int p0), (2, .int p1), (3, .int p2)]) hx hb dX4_tryOne_16 hl (by decide) rfl (fun ls hl => ?_)
    refine lv_aload_n hx hb dX4_tryOne_18 rfl (lv_at hl 1 rfl) ?_
    refine lv_iload hx hb dX4_tryOne_19 (lv_at hl 0 rfl) ?_
    refine lv_aload_n hx hb dX4_tryOne_21 rfl (lv_at hl 1 rfl) ?_
    refine m_get S hK hP 0 (by decide) q1600 rfl dX4_tryOne_22 ?_
    refine lv_iconst (v := 0) hx hb dX4_tryOne_25 (by decide) ?_
    obtain ⟨g_6, hf⟩ := ga_some hf
    refine m_ild S hK hP 0 1 rfl g_6 dX4_tryOne_26 ?_
    clear g_6
    obtain ⟨r_9, μ_7, h_8, hf⟩ := b2_some hf
    refine ci_call S hK hP hD hZ hS hA (tX4_ratio l D d z o a K r_4 (μ.2.2 0 (0 : Int32).toNatClampNeg) μ _ _ h_8) (cwV 2 hts (lw_V q2007 q2009 qs79 q101 q2010) rfl rfl rfl (by decide +kernel) ⟨Nat.le_of_ble_eq_true rfl, Nat.le_of_ble_eq_true rfl⟩) (ci := 0) (q0 := 0) rfl rfl rfl hl.1 rfl (Nat.le_of_ble_eq_true rfl) ⟨Nat.le_of_ble_eq_true rfl, Nat.le_of_ble_eq_true rfl⟩ dX4_tryOne_27 ?_
    clear hP hD hS
    intro H locs hP hD hS
    clear h_8
    refine lv_istore (lv' := [(5, .int r_9), (4, .int r_4), (0, .ref o), (1, .int p0), (2, .int p1), (3, .int p2)]) hx hb dX4_tryOne_30 hl (by decide) rfl (fun ls hl => ?_)
    refine lv_aload_n hx hb dX4_tryOne_32 rfl (lv_at hl 2 rfl) ?_
    refine lv_dup hx hb dX4_tryOne_33 rfl ?_
    refine m_get S hK hP 39 (by decide) q1639 rfl dX4_tryOne_34 ?_
    refine lv_iconst (v := 1) hx hb dX4_tryOne_37 (by decide) ?_
    refine lv_iadd hx hb dX4_tryOne_38 ?_
    refine m_putI S hK hP hD hS 39 (by decide) q1639 rfl rfl rfl rfl rfl dX4_tryOne_39 ?_
    clear hP hD hS
    intro μ_10 e_ H locs hP hD hS
    replace hf := nm_some hf μ_10 e_
    clear e_
    refine lv_aload_n hx hb dX4_tryOne_42 rfl (lv_at hl 2 rfl) ?_
    refine m_get S hK hP 42 (by decide) q1642 rfl dX4_tryOne_43 ?_
    refine lv_if_lt (tgt := 58) hx hb dX4_tryOne_46 (by decide) (fun c_11 => ?_) (fun c_11 => ?_)
    · replace hf := it_t hf c_11
      clear c_11
      exact L58 r_4 r_9 μ_10 _ _ _ hf hP hD hS (lv_sub hl [2, 1, 0] rfl)
    · replace hf := it_f hf c_11
      clear c_11
      refine lv_iload hx hb dX4_tryOne_49 (lv_at hl 0 rfl) ?_
      refine lv_aload_n hx hb dX4_tryOne_51 rfl (lv_at hl 2 rfl) ?_
      refine m_get S hK hP 43 (by decide) q1643 rfl dX4_tryOne_52 ?_
      refine lv_icmp_ge (tgt := 70) hx hb dX4_tryOne_55 (by decide) (fun c_14 => ?_) (fun c_14 => ?_)
      · replace hf := it_t hf c_14
        clear c_14
        exact hret _ _ _ _ _ hf dX4_tryOne_70 hP hD hS
      · replace hf := it_f hf c_14
        clear c_14
        exact L58 r_4 r_9 μ_10 _ _ _ hf hP hD hS (lv_sub hl [2, 1, 0] rfl)
  · replace hf := it_f hf (bi_e0 c_3)
    clear c_3
    exact hret _ _ _ _ _ hf dX4_tryOne_9 hP hD hS
def fX4_search_L28 (K : Nat) : Nat → Int32 → MS → Option MS
  | 0, _, _ => none
  | n + 1, x28_2, μ28 =>
    if x28_2 ≤ 0 then
      some μ28
    else
      b1 (fX4_side K (μ28.1 40)) fun r_9 =>
      b1 (fX4_coil K (μ28.1 40)) fun r_11 =>
      b1 (fX4_capacitor K (μ28.1 40)) fun r_13 =>
      nm (sI μ28 42 (-1 : Int32)) fun μ_15 =>
      b1 (fX4_tryOne K r_9 (r_11 + x28_2) r_13 μ_15) fun μ_16 =>
      b1 (fX4_tryOne K r_9 (r_11 - x28_2) r_13 μ_16) fun μ_18 =>
      b1 (fX4_tryOne K r_9 r_11 (r_13 + x28_2) μ_18) fun μ_20 =>
      b1 (fX4_tryOne K r_9 r_11 (r_13 - x28_2) μ_20) fun μ_22 =>
      b1 (fX4_tryOne K ((1 : Int32) - r_9) r_11 r_13 μ_22) fun μ_24 =>
      if (μ_24.1 41) ≤ (μ_24.1 43) then
        nm (x28_2 / (2 : Int32)) fun v_27 =>
        fX4_search_L28 K n v_27 μ_24
      else
        nm (sI μ_24 40 (μ_24.1 42)) fun μ_28 =>
        nm (sI μ_28 41 (μ_28.1 43)) fun μ_29 =>
        fX4_search_L28 K n x28_2 μ_29
def fX4_search (K : Nat) (p0 : Int32) (μ : MS) : Option MS :=
  nm (sI μ 40 p0) fun μ_1 =>
  ga (ix (0 : Int32) 254) <|
  b2 (fX4_ratio K p0 (μ_1.2.2 0 (0 : Int32).toNatClampNeg) μ_1) fun r_5 μ_3 =>
  nm (sI μ_3 41 r_5) fun μ_6 =>
  nm (sI μ_6 39 (1 : Int32)) fun μ_7 =>
  fX4_search_L28 K K (16 : Int32) μ_7
set_option maxHeartbeats 4000000 in
set_option maxRecDepth 100000 in
theorem tX4_search (l : Launch) (D : va_G) (d : Nat → ClassId) (z : ZT) (o : Nat) (a : Nat → Nat) (K : Nat) (p0 : Int32) (μ : MS) (μ' : MS) (hf : fX4_search K p0 μ = some μ') : CV l yX4_search (ws_ yX4_search cX4_search 6 (Option.none : Option Jvm.ClassFile.FieldType)) (rmc 5 0 0 128) D d z [.ref o, .int p0] (MP d o a μ) (MP d o a μ') := by
  refine mV_of rfl (by decide) (Nat.le_of_ble_eq_true rfl) ?_
  intro p e s m args below meth c A Q ls S hK hP hD hZ hS hA hl hret
  have hx := S.1
  have hb := S.2.1
  have hts := S.2.2.2.2
  have hl : lv_has ls 6 [(0, .ref o), (1, .int p0)] := hl
  have L28 : ∀ (n : Nat) (x28_2 : Int32) (μ28 : MS) (H : Heap) (locs : List Loc) (ls : Array Slot), fX4_search_L28 K n x28_2 μ28 = some μ' → va_P D CL (MP d o a μ28) H → va_D A (MP d o a μ28) → va_S A s.heap H locs → lv_has ls 6 [(0, .ref o), (2, .int x28_2)] → W p l e (rmc 5 0 0 128) s m args below meth c H locs 0 0 Q (F0 m 28 ls []) := by
    intro n
    induction n with
    | zero =>
      intro x28_2 μ28 H locs ls hf hP hD hS hl
      rw [fX4_search_L28] at hf
      cases hf
    | succ n ih =>
      intro x28_2 μ28 H locs ls hf hP hD hS hl
      rw [fX4_search_L28] at hf
      refine lv_iload_n hx hb dX4_search_28 rfl (lv_at hl 1 rfl) ?_
      refine lv_if_le (tgt := 155) hx hb dX4_search_29 (by decide) (fun c_8 => ?_) (fun c_8 => ?_)
      · replace hf := it_t hf c_8
        clear c_8
        exact hret _ _ _ _ _ hf dX4_search_155 hP hD hS
      · replace hf := it_f hf c_8
        clear c_8
        refine lv_aload_n hx hb dX4_search_32 rfl (lv_at hl 0 rfl) ?_
        refine m_get S hK hP 40 (by decide) q1640 rfl dX4_search_33 ?_
        obtain ⟨r_9, h_10, hf⟩ := b1_some hf
        refine si_call S (tX4_side l K (μ28.1 40) _ h_10) (va_cwS 1 hts (lw_S q1943 q1944 q101 q1945) rfl rfl rfl (by decide +kernel) ⟨Nat.le_of_ble_eq_true rfl, Nat.le_of_ble_eq_true rfl⟩) rfl hl.1 rfl (Nat.le_of_ble_eq_true rfl) ⟨Nat.le_of_ble_eq_true rfl, Nat.le_of_ble_eq_true rfl⟩ dX4_search_36 ?_
        clear h_10
        refine lv_istore_n (lv' := [(3, .int r_9), (0, .ref o), (2, .int x28_2)]) hx hb dX4_search_39 rfl hl (by decide) rfl (fun ls hl => ?_)
        refine lv_aload_n hx hb dX4_search_40 rfl (lv_at hl 1 rfl) ?_
        refine m_get S hK hP 40 (by decide) q1640 rfl dX4_search_41 ?_
        obtain ⟨r_11, h_12, hf⟩ := b1_some hf
        refine si_call S (tX4_coil l K (μ28.1 40) _ h_12) (va_cwS 1 hts (lw_S q1934 q1935 q101 q1936) rfl rfl rfl (by decide +kernel) ⟨Nat.le_of_ble_eq_true rfl, Nat.le_of_ble_eq_true rfl⟩) rfl hl.1 rfl (Nat.le_of_ble_eq_true rfl) ⟨Nat.le_of_ble_eq_true rfl, Nat.le_of_ble_eq_true rfl⟩ dX4_search_44 ?_
        clear h_12
        refine lv_istore (lv' := [(4, .int r_11), (3, .int r_9), (0, .ref o), (2, .int x28_2)]) hx hb dX4_search_47 hl (by decide) rfl (fun ls hl => ?_)
        refine lv_aload_n hx hb dX4_search_49 rfl (lv_at hl 2 rfl) ?_
        refine m_get S hK hP 40 (by decide) q1640 rfl dX4_search_50 ?_
        obtain ⟨r_13, h_14, hf⟩ := b1_some hf
        refine si_call S (tX4_capacitor l K (μ28.1 40) _ h_14) (va_cwS 1 hts (lw_S q1937 q1938 q101 q1939) rfl rfl rfl (by decide +kernel) ⟨Nat.le_of_ble_eq_true rfl, Nat.le_of_ble_eq_true rfl⟩) rfl hl.1 rfl (Nat.le_of_ble_eq_true rfl) ⟨Nat.le_of_ble_eq_true rfl, Nat.le_of_ble_eq_true rfl⟩ dX4_search_53 ?_
        clear h_14
        refine lv_istore (lv' := [(5, .int r_13), (4, .int r_11), (3, .int r_9), (0, .ref o), (2, .int x28_2)]) hx hb dX4_search_56 hl (by decide) rfl (fun ls hl => ?_)
        refine lv_aload_n hx hb dX4_search_58 rfl (lv_at hl 3 rfl) ?_
        refine lv_iconst (v := -1) hx hb dX4_search_59 (by decide) ?_
        refine m_putI S hK hP hD hS 42 (by decide) q1642 rfl rfl rfl rfl rfl dX4_search_60 ?_
        clear hP hD hS
        intro μ_15 e_ H locs hP hD hS
        replace hf := nm_some hf μ_15 e_
        clear e_
        refine lv_aload_n hx hb dX4_search_63 rfl (lv_at hl 3 rfl) ?_
        refine lv_iload_n hx hb dX4_search_64 rfl (lv_at hl 2 rfl) ?_
        refine lv_iload hx hb dX4_search_65 (lv_at hl 1 rfl) ?_
        refine lv_iload_n hx hb dX4_search_67 rfl (lv_at hl 4 rfl) ?_
        refine lv_iadd hx hb dX4_search_68 ?_
        refine lv_iload hx hb dX4_search_69 (lv_at hl 0 rfl) ?_
        obtain ⟨μ_16, h_17, hf⟩ := b1_some hf
        refine cv_call S hK hP hD hZ hS hA (tX4_tryOne l D d z o a K r_9 (r_11 + x28_2) r_13 μ_15 _ h_17) (cwV 3 hts (lw_V q2109 q2111 qs87 q101 q2112) rfl rfl rfl (by decide +kernel) ⟨Nat.le_of_ble_eq_true rfl, Nat.le_of_ble_eq_true rfl⟩) (ci := 0) (q0 := 0) rfl rfl rfl hl.1 rfl (Nat.le_of_ble_eq_true rfl) ⟨Nat.le_of_ble_eq_true rfl, Nat.le_of_ble_eq_true rfl⟩ dX4_search_71 ?_
        clear hP hD hS
        intro H locs hP hD hS
        clear h_17
        refine lv_aload_n hx hb dX4_search_74 rfl (lv_at hl 3 rfl) ?_
        refine lv_iload_n hx hb dX4_search_75 rfl (lv_at hl 2 rfl) ?_
        refine lv_iload hx hb dX4_search_76 (lv_at hl 1 rfl) ?_
        refine lv_iload_n hx hb dX4_search_78 rfl (lv_at hl 4 rfl) ?_
        refine lv_isub hx hb dX4_search_79 ?_
        refine lv_iload hx hb dX4_search_80 (lv_at hl 0 rfl) ?_
        obtain ⟨μ_18, h_19, hf⟩ := b1_some hf
        refine cv_call S hK hP hD hZ hS hA (tX4_tryOne l D d z o a K r_9 (r_11 - x28_2) r_13 μ_16 _ h_19) (cwV 3 hts (lw_V q2109 q2111 qs87 q101 q2112) rfl rfl rfl (by decide +kernel) ⟨Nat.le_of_ble_eq_true rfl, Nat.le_of_ble_eq_true rfl⟩) (ci := 0) (q0 := 0) rfl rfl rfl hl.1 rfl (Nat.le_of_ble_eq_true rfl) ⟨Nat.le_of_ble_eq_true rfl, Nat.le_of_ble_eq_true rfl⟩ dX4_search_82 ?_
        clear hP hD hS
        intro H locs hP hD hS
        clear h_19
        refine lv_aload_n hx hb dX4_search_85 rfl (lv_at hl 3 rfl) ?_
        refine lv_iload_n hx hb dX4_search_86 rfl (lv_at hl 2 rfl) ?_
        refine lv_iload hx hb dX4_search_87 (lv_at hl 1 rfl) ?_
        refine lv_iload hx hb dX4_search_89 (lv_at hl 0 rfl) ?_
        refine lv_iload_n hx hb dX4_search_91 rfl (lv_at hl 4 rfl) ?_
        refine lv_iadd hx hb dX4_search_92 ?_
        obtain ⟨μ_20, h_21, hf⟩ := b1_some hf
        refine cv_call S hK hP hD hZ hS hA (tX4_tryOne l D d z o a K r_9 r_11 (r_13 + x28_2) μ_18 _ h_21) (cwV 3 hts (lw_V q2109 q2111 qs87 q101 q2112) rfl rfl rfl (by decide +kernel) ⟨Nat.le_of_ble_eq_true rfl, Nat.le_of_ble_eq_true rfl⟩) (ci := 0) (q0 := 0) rfl rfl rfl hl.1 rfl (Nat.le_of_ble_eq_true rfl) ⟨Nat.le_of_ble_eq_true rfl, Nat.le_of_ble_eq_true rfl⟩ dX4_search_93 ?_
        clear hP hD hS
        intro H locs hP hD hS
        clear h_21
        refine lv_aload_n hx hb dX4_search_96 rfl (lv_at hl 3 rfl) ?_
        refine lv_iload_n hx hb dX4_search_97 rfl (lv_at hl 2 rfl) ?_
        refine lv_iload hx hb dX4_search_98 (lv_at hl 1 rfl) ?_
        refine lv_iload hx hb dX4_search_100 (lv_at hl 0 rfl) ?_
        refine lv_iload_n hx hb dX4_search_102 rfl (lv_at hl 4 rfl) ?_
        refine lv_isub hx hb dX4_search_103 ?_
        obtain ⟨μ_22, h_23, hf⟩ := b1_some hf
        refine cv_call S hK hP hD hZ hS hA (tX4_tryOne l D d z o a K r_9 r_11 (r_13 - x28_2) μ_20 _ h_23) (cwV 3 hts (lw_V q2109 q2111 qs87 q101 q2112) rfl rfl rfl (by decide +kernel) ⟨Nat.le_of_ble_eq_true rfl, Nat.le_of_ble_eq_true rfl⟩) (ci := 0) (q0 := 0) rfl rfl rfl hl.1 rfl (Nat.le_of_ble_eq_true rfl) ⟨Nat.le_of_ble_eq_true rfl, Nat.le_of_ble_eq_true rfl⟩ dX4_search_104 ?_
        clear hP hD hS
        intro H locs hP hD hS
        clear h_23
        refine lv_aload_n hx hb dX4_search_107 rfl (lv_at hl 3 rfl) ?_
        refine lv_iconst (v := 1) hx hb dX4_search_108 (by decide) ?_
        refine lv_iload_n hx hb dX4_search_109 rfl (lv_at hl 2 rfl) ?_
        refine lv_isub hx hb dX4_search_110 ?_
        refine lv_iload hx hb dX4_search_111 (lv_at hl 1 rfl) ?_
        refine lv_iload hx hb dX4_search_113 (lv_at hl 0 rfl) ?_
        obtain ⟨μ_24, h_25, hf⟩ := b1_some hf
        refine cv_call S hK hP hD hZ hS hA (tX4_tryOne l D d z o a K ((1 : Int32) - r_9) r_11 r_13 μ_22 _ h_25) (cwV 3 hts (lw_V q2109 q2111 qs87 q101 q2112) rfl rfl rfl (by decide +kernel) ⟨Nat.le_of_ble_eq_true rfl, Nat.le_of_ble_eq_true rfl⟩) (ci := 0) (q0 := 0) rfl rfl rfl hl.1 rfl (Nat.le_of_ble_eq_true rfl) ⟨Nat.le_of_ble_eq_true rfl, Nat.le_of_ble_eq_true rfl⟩ dX4_search_115 ?_
        clear hP hD hS
        intro H locs hP hD hS
        clear h_25
        refine lv_aload_n hx hb dX4_search_118 rfl (lv_at hl 3 rfl) ?_
        refine m_get S hK hP 43 (by decide) q1643 rfl dX4_search_119 ?_
        refine lv_aload_n hx hb dX4_search_122 rfl (lv_at hl 3 rfl) ?_
        refine m_get S hK hP 41 (by decide) q1641 rfl dX4_search_123 ?_
        refine lv_icmp_ge (tgt := 148) hx hb dX4_search_126 (by decide) (fun c_26 => ?_) (fun c_26 => ?_)
        · replace hf := it_t hf c_26
          clear c_26
          refine lv_iload_n hx hb dX4_search_148 rfl (lv_at hl 4 rfl) ?_
          refine lv_iconst (v := 2) hx hb dX4_search_149 (by decide) ?_
          refine lv_idiv hx hb dX4_search_150 (by decide) ?_
          refine lv_topi (fun v_27 e_ => ?_)
          replace hf := nm_some hf v_27 e_
          clear e_
          refine lv_istore_n (lv' := [(2, .int v_27), (5, .int r_13), (4, .int r_11), (3, .int r_9), (0, .ref o)]) hx hb dX4_search_151 rfl hl (by decide) rfl (fun ls hl => ?_)
          refine lv_goto (tgt := 28) hx hb dX4_search_152 (by decide) ?_
          exact ih v_27 μ_24 _ _ _ hf hP hD hS (lv_sub hl [4, 0] rfl)
        · replace hf := it_f hf c_26
          clear c_26
          refine lv_aload_n hx hb dX4_search_129 rfl (lv_at hl 3 rfl) ?_
          refine lv_aload_n hx hb dX4_search_130 rfl (lv_at hl 3 rfl) ?_
          refine m_get S hK hP 42 (by decide) q1642 rfl dX4_search_131 ?_
          refine m_putI S hK hP hD hS 40 (by decide) q1640 rfl rfl rfl rfl rfl dX4_search_134 ?_
          clear hP hD hS
          intro μ_28 e_ H locs hP hD hS
          replace hf := nm_some hf μ_28 e_
          clear e_
          refine lv_aload_n hx hb dX4_search_137 rfl (lv_at hl 3 rfl) ?_
          refine lv_aload_n hx hb dX4_search_138 rfl (lv_at hl 3 rfl) ?_
          refine m_get S hK hP 43 (by decide) q1643 rfl dX4_search_139 ?_
          refine m_putI S hK hP hD hS 41 (by decide) q1641 rfl rfl rfl rfl rfl dX4_search_142 ?_
          clear hP hD hS
          intro μ_29 e_ H locs hP hD hS
          replace hf := nm_some hf μ_29 e_
          clear e_
          refine lv_goto (tgt := 152) hx hb dX4_search_145 (by decide) ?_
          refine lv_goto (tgt := 28) hx hb dX4_search_152 (by decide) ?_
          exact ih x28_2 μ_29 _ _ _ hf hP hD hS (lv_sub hl [3, 4] rfl)
  unfold fX4_search at hf
  refine lv_aload_n hx hb dX4_search_0 rfl (lv_at hl 0 rfl) ?_
  refine lv_iload_n hx hb dX4_search_1 rfl (lv_at hl 1 rfl) ?_
  refine m_putI S hK hP hD hS 40 (by decide) q1640 rfl rfl rfl rfl rfl dX4_search_2 ?_
  clear hP hD hS
  intro μ_1 e_ H locs hP hD hS
  replace hf := nm_some hf μ_1 e_
  clear e_
  refine lv_aload_n hx hb dX4_search_5 rfl (lv_at hl 0 rfl) ?_
  refine lv_aload_n hx hb dX4_search_6 rfl (lv_at hl 0 rfl) ?_
  refine lv_iload_n hx hb dX4_search_7 rfl (lv_at hl 1 rfl) ?_
  refine lv_aload_n hx hb dX4_search_8 rfl (lv_at hl 0 rfl) ?_
  refine m_get S hK hP 0 (by decide) q1600 rfl dX4_search_9 ?_
  refine lv_iconst (v := 0) hx hb dX4_search_12 (by decide) ?_
  obtain ⟨g_2, hf⟩ := ga_some hf
  refine m_ild S hK hP 0 1 rfl g_2 dX4_search_13 ?_
  clear g_2
  obtain ⟨r_5, μ_3, h_4, hf⟩ := b2_some hf
  refine ci_call S hK hP hD hZ hS hA (tX4_ratio l D d z o a K p0 (μ_1.2.2 0 (0 : Int32).toNatClampNeg) μ_1 _ _ h_4) (cwV 2 hts (lw_V q2007 q2009 qs79 q101 q2010) rfl rfl rfl (by decide +kernel) ⟨Nat.le_of_ble_eq_true rfl, Nat.le_of_ble_eq_true rfl⟩) (ci := 0) (q0 := 0) rfl rfl rfl hl.1 rfl (Nat.le_of_ble_eq_true rfl) ⟨Nat.le_of_ble_eq_true rfl, Nat.le_of_ble_eq_true rfl⟩ dX4_search_14 ?_
  clear hP hD hS
  intro H locs hP hD hS
  clear h_4
  refine m_putI S hK hP hD hS 41 (by decide) q1641 rfl rfl rfl rfl rfl dX4_search_17 ?_
  clear hP hD hS
  intro μ_6 e_ H locs hP hD hS
  replace hf := nm_some hf μ_6 e_
  clear e_
  refine lv_aload_n hx hb dX4_search_20 rfl (lv_at hl 0 rfl) ?_
  refine lv_iconst (v := 1) hx hb dX4_search_21 (by decide) ?_
  refine m_putI S hK hP hD hS 39 (by decide) q1639 rfl rfl rfl rfl rfl dX4_search_22 ?_
  clear hP hD hS
  intro μ_7 e_ H locs hP hD hS
  replace hf := nm_some hf μ_7 e_
  clear e_
  refine lv_bipush (v := 16) hx hb dX4_search_25 (by decide) ?_
  refine lv_istore_n (lv' := [(2, .int (16 : Int32)), (0, .ref o), (1, .int p0)]) hx hb dX4_search_27 rfl hl (by decide) rfl (fun ls hl => ?_)
  exact L28 K (16 : Int32) μ_7 _ _ _ hf hP hD hS (lv_sub hl [1, 0] rfl)
def fX4_evaluations (K : Nat) (μ : MS) : Option (Int32 × MS) :=
  if (μ.1 3) = 0 then
    some ((-1 : Int32), μ)
  else
    some (μ.1 39, μ)
set_option maxHeartbeats 4000000 in
set_option maxRecDepth 100000 in
theorem tX4_evaluations (l : Launch) (D : va_G) (d : Nat → ClassId) (z : ZT) (o : Nat) (a : Nat → Nat) (K : Nat) (μ : MS) (r : Int32) (μ' : MS) (hf : fX4_evaluations K μ = some (r, μ')) : CI l yX4_evaluations (ws_ yX4_evaluations cX4_evaluations 1 (Option.some Jvm.ClassFile.FieldType.int)) (rmc 0 0 0 0) D d z [.ref o] (MP d o a μ) r (MP d o a μ') := by
  refine mI_of rfl (by decide) (Nat.le_of_ble_eq_true rfl) ?_
  intro p e s m args below meth c A Q ls S hK hP hD hZ hS hA hl hret
  have hx := S.1
  have hb := S.2.1
  have hts := S.2.2.2.2
  have hl : lv_has ls 1 [(0, .ref o)] := hl
  unfold fX4_evaluations at hf
  refine lv_aload_n hx hb dX4_evaluations_0 rfl (lv_at hl 0 rfl) ?_
  refine m_get S hK hP 3 (by decide) q1603 rfl dX4_evaluations_1 ?_
  refine lv_if_eq (tgt := 14) hx hb dX4_evaluations_4 (by decide) (fun c_1 => ?_) (fun c_1 => ?_)
  · replace hf := it_t hf c_1
    clear c_1
    refine lv_iconst (v := -1) hx hb dX4_evaluations_14 (by decide) ?_
    exact hret _ _ _ _ _ _ hf dX4_evaluations_15 hP hD hS
  · replace hf := it_f hf c_1
    clear c_1
    refine lv_aload_n hx hb dX4_evaluations_7 rfl (lv_at hl 0 rfl) ?_
    refine m_get S hK hP 39 (by decide) q1639 rfl dX4_evaluations_8 ?_
    refine lv_goto (tgt := 15) hx hb dX4_evaluations_11 (by decide) ?_
    exact hret _ _ _ _ _ _ hf dX4_evaluations_15 hP hD hS
def fX4_bestSettings_L17 (K : Nat) : Nat → Int32 → Int32 → Int32 → MS → Option (Int32 × MS)
  | 0, _, _, _, _ => none
  | n + 1, x17_1, x17_2, x17_3, μ17 =>
    if (8192 : Int32) ≤ x17_3 then
      some (x17_1, μ17)
    else
      ga (ix (0 : Int32) 254) <|
      b2 (fX4_ratio K x17_3 (μ17.2.2 0 (0 : Int32).toNatClampNeg) μ17) fun r_6 μ_4 =>
      if x17_2 ≤ r_6 then
        fX4_bestSettings_L17 K n x17_1 x17_2 (x17_3 + (1 : Int32)) μ_4
      else
        fX4_bestSettings_L17 K n x17_3 r_6 (x17_3 + (1 : Int32)) μ_4
def fX4_bestSettings (K : Nat) (μ : MS) : Option (Int32 × MS) :=
  if (μ.1 3) = 0 then
    some ((-1 : Int32), μ)
  else
    fX4_bestSettings_L17 K K (0 : Int32) (100000 : Int32) (0 : Int32) μ
set_option maxHeartbeats 4000000 in
set_option maxRecDepth 100000 in
theorem tX4_bestSettings (l : Launch) (D : va_G) (d : Nat → ClassId) (z : ZT) (o : Nat) (a : Nat → Nat) (K : Nat) (μ : MS) (r : Int32) (μ' : MS) (hf : fX4_bestSettings K μ = some (r, μ')) : CI l yX4_bestSettings (ws_ yX4_bestSettings cX4_bestSettings 5 (Option.some Jvm.ClassFile.FieldType.int)) (rmc 4 0 0 103) D d z [.ref o] (MP d o a μ) r (MP d o a μ') := by
  refine mI_of rfl (by decide) (Nat.le_of_ble_eq_true rfl) ?_
  intro p e s m args below meth c A Q ls S hK hP hD hZ hS hA hl hret
  have hx := S.1
  have hb := S.2.1
  have hts := S.2.2.2.2
  have hl : lv_has ls 5 [(0, .ref o)] := hl
  have L17 : ∀ (n : Nat) (x17_1 : Int32) (x17_2 : Int32) (x17_3 : Int32) (μ17 : MS) (H : Heap) (locs : List Loc) (ls : Array Slot), fX4_bestSettings_L17 K n x17_1 x17_2 x17_3 μ17 = some (r, μ') → va_P D CL (MP d o a μ17) H → va_D A (MP d o a μ17) → va_S A s.heap H locs → lv_has ls 5 [(0, .ref o), (1, .int x17_1), (2, .int x17_2), (3, .int x17_3)] → W p l e (rmc 4 0 0 103) s m args below meth c H locs 0 0 Q (F0 m 17 ls []) := by
    intro n
    induction n with
    | zero =>
      intro x17_1 x17_2 x17_3 μ17 H locs ls hf hP hD hS hl
      rw [fX4_bestSettings_L17] at hf
      cases hf
    | succ n ih =>
      intro x17_1 x17_2 x17_3 μ17 H locs ls hf hP hD hS hl
      rw [fX4_bestSettings_L17] at hf
      refine lv_iload_n hx hb dX4_bestSettings_17 rfl (lv_at hl 3 rfl) ?_
      refine lv_sipush (v := 8192) hx hb dX4_bestSettings_18 (by decide) ?_
      refine lv_icmp_ge (tgt := 54) hx hb dX4_bestSettings_21 (by decide) (fun c_2 => ?_) (fun c_2 => ?_)
      · replace hf := it_t hf c_2
        clear c_2
        refine lv_iload_n hx hb dX4_bestSettings_54 rfl (lv_at hl 1 rfl) ?_
        exact hret _ _ _ _ _ _ hf dX4_bestSettings_55 hP hD hS
      · replace hf := it_f hf c_2
        clear c_2
        refine lv_aload_n hx hb dX4_bestSettings_24 rfl (lv_at hl 0 rfl) ?_
        refine lv_iload_n hx hb dX4_bestSettings_25 rfl (lv_at hl 3 rfl) ?_
        refine lv_aload_n hx hb dX4_bestSettings_26 rfl (lv_at hl 0 rfl) ?_
        refine m_get S hK hP 0 (by decide) q1600 rfl dX4_bestSettings_27 ?_
        refine lv_iconst (v := 0) hx hb dX4_bestSettings_30 (by decide) ?_
        obtain ⟨g_3, hf⟩ := ga_some hf
        refine m_ild S hK hP 0 1 rfl g_3 dX4_bestSettings_31 ?_
        clear g_3
        obtain ⟨r_6, μ_4, h_5, hf⟩ := b2_some hf
        refine ci_call S hK hP hD hZ hS hA (tX4_ratio l D d z o a K x17_3 (μ17.2.2 0 (0 : Int32).toNatClampNeg) μ17 _ _ h_5) (cwV 2 hts (lw_V q2007 q2009 qs79 q101 q2010) rfl rfl rfl (by decide +kernel) ⟨Nat.le_of_ble_eq_true rfl, Nat.le_of_ble_eq_true rfl⟩) (ci := 0) (q0 := 0) rfl rfl rfl hl.1 rfl (Nat.le_of_ble_eq_true rfl) ⟨Nat.le_of_ble_eq_true rfl, Nat.le_of_ble_eq_true rfl⟩ dX4_bestSettings_32 ?_
        clear hP hD hS
        intro H locs hP hD hS
        clear h_5
        refine lv_istore (lv' := [(4, .int r_6), (0, .ref o), (1, .int x17_1), (2, .int x17_2), (3, .int x17_3)]) hx hb dX4_bestSettings_35 hl (by decide) rfl (fun ls hl => ?_)
        refine lv_iload hx hb dX4_bestSettings_37 (lv_at hl 0 rfl) ?_
        refine lv_iload_n hx hb dX4_bestSettings_39 rfl (lv_at hl 3 rfl) ?_
        refine lv_icmp_ge (tgt := 48) hx hb dX4_bestSettings_40 (by decide) (fun c_7 => ?_) (fun c_7 => ?_)
        · replace hf := it_t hf c_7
          clear c_7
          refine lv_iinc (v := x17_3 + (1 : Int32)) (lv' := [(3, .int (x17_3 + (1 : Int32))), (4, .int r_6), (0, .ref o), (1, .int x17_1), (2, .int x17_2)]) hx hb dX4_bestSettings_48 hl (k := 4) rfl rfl (by decide) rfl (fun ls hl => ?_)
          refine lv_goto (tgt := 17) hx hb dX4_bestSettings_51 (by decide) ?_
          exact ih x17_1 x17_2 (x17_3 + (1 : Int32)) μ_4 _ _ _ hf hP hD hS (lv_sub hl [2, 3, 4, 0] rfl)
        · replace hf := it_f hf c_7
          clear c_7
          refine lv_iload_n hx hb dX4_bestSettings_43 rfl (lv_at hl 4 rfl) ?_
          refine lv_istore_n (lv' := [(1, .int x17_3), (4, .int r_6), (0, .ref o), (2, .int x17_2), (3, .int x17_3)]) hx hb dX4_bestSettings_44 rfl hl (by decide) rfl (fun ls hl => ?_)
          refine lv_iload hx hb dX4_bestSettings_45 (lv_at hl 1 rfl) ?_
          refine lv_istore_n (lv' := [(2, .int r_6), (1, .int x17_3), (4, .int r_6), (0, .ref o), (3, .int x17_3)]) hx hb dX4_bestSettings_47 rfl hl (by decide) rfl (fun ls hl => ?_)
          refine lv_iinc (v := x17_3 + (1 : Int32)) (lv' := [(3, .int (x17_3 + (1 : Int32))), (2, .int r_6), (1, .int x17_3), (4, .int r_6), (0, .ref o)]) hx hb dX4_bestSettings_48 hl (k := 4) rfl rfl (by decide) rfl (fun ls hl => ?_)
          refine lv_goto (tgt := 17) hx hb dX4_bestSettings_51 (by decide) ?_
          exact ih x17_3 r_6 (x17_3 + (1 : Int32)) μ_4 _ _ _ hf hP hD hS (lv_sub hl [4, 2, 1, 0] rfl)
  unfold fX4_bestSettings at hf
  refine lv_aload_n hx hb dX4_bestSettings_0 rfl (lv_at hl 0 rfl) ?_
  refine m_get S hK hP 3 (by decide) q1603 rfl dX4_bestSettings_1 ?_
  refine lv_if_ne (tgt := 9) hx hb dX4_bestSettings_4 (by decide) (fun c_1 => ?_) (fun c_1 => ?_)
  · replace hf := it_f hf c_1
    clear c_1
    refine lv_iconst (v := 0) hx hb dX4_bestSettings_9 (by decide) ?_
    refine lv_istore_n (lv' := [(1, .int (0 : Int32)), (0, .ref o)]) hx hb dX4_bestSettings_10 rfl hl (by decide) rfl (fun ls hl => ?_)
    refine lv_ldcw hx hb S.2.2.2.1 (hts _ q2144) dX4_bestSettings_11 ?_
    refine lv_istore_n (lv' := [(2, .int (100000 : Int32)), (1, .int (0 : Int32)), (0, .ref o)]) hx hb dX4_bestSettings_14 rfl hl (by decide) rfl (fun ls hl => ?_)
    refine lv_iconst (v := 0) hx hb dX4_bestSettings_15 (by decide) ?_
    refine lv_istore_n (lv' := [(3, .int (0 : Int32)), (2, .int (100000 : Int32)), (1, .int (0 : Int32)), (0, .ref o)]) hx hb dX4_bestSettings_16 rfl hl (by decide) rfl (fun ls hl => ?_)
    exact L17 K (0 : Int32) (100000 : Int32) (0 : Int32) μ _ _ _ hf hP hD hS (lv_sub hl [3, 2, 1, 0] rfl)
  · replace hf := it_t hf c_1
    clear c_1
    refine lv_iconst (v := -1) hx hb dX4_bestSettings_7 (by decide) ?_
    exact hret _ _ _ _ _ _ hf dX4_bestSettings_8 hP hD hS
def fX4_mostEfficient_L16 (K : Nat) : Nat → Int32 → Int32 → Int32 → MS → Option (Int32 × MS)
  | 0, _, _, _, _ => none
  | n + 1, x16_1, x16_2, x16_3, μ16 =>
    if (8192 : Int32) ≤ x16_3 then
      some (x16_1, μ16)
    else
      ga (ix (0 : Int32) 254) <|
      b2 (fX4_ratio K x16_3 (μ16.2.2 0 (0 : Int32).toNatClampNeg) μ16) fun r_6 μ_4 =>
      if r_6 ≤ (μ_4.1 9) then
        b2 (fX4_efficiencyOf K x16_3 μ_4) fun r_10 μ_8 =>
        if r_10 ≤ x16_2 then
          fX4_mostEfficient_L16 K n x16_1 x16_2 (x16_3 + (1 : Int32)) μ_8
        else
          fX4_mostEfficient_L16 K n x16_3 r_10 (x16_3 + (1 : Int32)) μ_8
      else
        fX4_mostEfficient_L16 K n x16_1 x16_2 (x16_3 + (1 : Int32)) μ_4
def fX4_mostEfficient (K : Nat) (μ : MS) : Option (Int32 × MS) :=
  if (μ.1 3) = 0 then
    some ((-1 : Int32), μ)
  else
    fX4_mostEfficient_L16 K K (-2 : Int32) (-1 : Int32) (0 : Int32) μ
set_option maxHeartbeats 4000000 in
set_option maxRecDepth 100000 in
theorem tX4_mostEfficient (l : Launch) (D : va_G) (d : Nat → ClassId) (z : ZT) (o : Nat) (a : Nat → Nat) (K : Nat) (μ : MS) (r : Int32) (μ' : MS) (hf : fX4_mostEfficient K μ = some (r, μ')) : CI l yX4_mostEfficient (ws_ yX4_mostEfficient cX4_mostEfficient 5 (Option.some Jvm.ClassFile.FieldType.int)) (rmc 4 0 0 103) D d z [.ref o] (MP d o a μ) r (MP d o a μ') := by
  refine mI_of rfl (by decide) (Nat.le_of_ble_eq_true rfl) ?_
  intro p e s m args below meth c A Q ls S hK hP hD hZ hS hA hl hret
  have hx := S.1
  have hb := S.2.1
  have hts := S.2.2.2.2
  have hl : lv_has ls 5 [(0, .ref o)] := hl
  have L16 : ∀ (n : Nat) (x16_1 : Int32) (x16_2 : Int32) (x16_3 : Int32) (μ16 : MS) (H : Heap) (locs : List Loc) (ls : Array Slot), fX4_mostEfficient_L16 K n x16_1 x16_2 x16_3 μ16 = some (r, μ') → va_P D CL (MP d o a μ16) H → va_D A (MP d o a μ16) → va_S A s.heap H locs → lv_has ls 5 [(0, .ref o), (1, .int x16_1), (2, .int x16_2), (3, .int x16_3)] → W p l e (rmc 4 0 0 103) s m args below meth c H locs 0 0 Q (F0 m 16 ls []) := by
    intro n
    induction n with
    | zero =>
      intro x16_1 x16_2 x16_3 μ16 H locs ls hf hP hD hS hl
      rw [fX4_mostEfficient_L16] at hf
      cases hf
    | succ n ih =>
      intro x16_1 x16_2 x16_3 μ16 H locs ls hf hP hD hS hl
      rw [fX4_mostEfficient_L16] at hf
      refine lv_iload_n hx hb dX4_mostEfficient_16 rfl (lv_at hl 3 rfl) ?_
      refine lv_sipush (v := 8192) hx hb dX4_mostEfficient_17 (by decide) ?_
      refine lv_icmp_ge (tgt := 68) hx hb dX4_mostEfficient_20 (by decide) (fun c_2 => ?_) (fun c_2 => ?_)
      · replace hf := it_t hf c_2
        clear c_2
        refine lv_iload_n hx hb dX4_mostEfficient_68 rfl (lv_at hl 1 rfl) ?_
        exact hret _ _ _ _ _ _ hf dX4_mostEfficient_69 hP hD hS
      · replace hf := it_f hf c_2
        clear c_2
        refine lv_aload_n hx hb dX4_mostEfficient_23 rfl (lv_at hl 0 rfl) ?_
        refine lv_iload_n hx hb dX4_mostEfficient_24 rfl (lv_at hl 3 rfl) ?_
        refine lv_aload_n hx hb dX4_mostEfficient_25 rfl (lv_at hl 0 rfl) ?_
        refine m_get S hK hP 0 (by decide) q1600 rfl dX4_mostEfficient_26 ?_
        refine lv_iconst (v := 0) hx hb dX4_mostEfficient_29 (by decide) ?_
        obtain ⟨g_3, hf⟩ := ga_some hf
        refine m_ild S hK hP 0 1 rfl g_3 dX4_mostEfficient_30 ?_
        clear g_3
        obtain ⟨r_6, μ_4, h_5, hf⟩ := b2_some hf
        refine ci_call S hK hP hD hZ hS hA (tX4_ratio l D d z o a K x16_3 (μ16.2.2 0 (0 : Int32).toNatClampNeg) μ16 _ _ h_5) (cwV 2 hts (lw_V q2007 q2009 qs79 q101 q2010) rfl rfl rfl (by decide +kernel) ⟨Nat.le_of_ble_eq_true rfl, Nat.le_of_ble_eq_true rfl⟩) (ci := 0) (q0 := 0) rfl rfl rfl hl.1 rfl (Nat.le_of_ble_eq_true rfl) ⟨Nat.le_of_ble_eq_true rfl, Nat.le_of_ble_eq_true rfl⟩ dX4_mostEfficient_31 ?_
        clear hP hD hS
        intro H locs hP hD hS
        clear h_5
        refine lv_aload_n hx hb dX4_mostEfficient_34 rfl (lv_at hl 0 rfl) ?_
        refine m_get S hK hP 9 (by decide) q1609 rfl dX4_mostEfficient_35 ?_
        refine lv_icmp_le (tgt := 44) hx hb dX4_mostEfficient_38 (by decide) (fun c_7 => ?_) (fun c_7 => ?_)
        · replace hf := it_t hf c_7
          clear c_7
          refine lv_aload_n hx hb dX4_mostEfficient_44 rfl (lv_at hl 0 rfl) ?_
          refine lv_iload_n hx hb dX4_mostEfficient_45 rfl (lv_at hl 3 rfl) ?_
          obtain ⟨r_10, μ_8, h_9, hf⟩ := b2_some hf
          refine ci_call S hK hP hD hZ hS hA (tX4_efficiencyOf l D d z o a K x16_3 μ_4 _ _ h_9) (cwV 1 hts (lw_V q2031 q2033 qs80 q101 q2034) rfl rfl rfl (by decide +kernel) ⟨Nat.le_of_ble_eq_true rfl, Nat.le_of_ble_eq_true rfl⟩) (ci := 0) (q0 := 0) rfl rfl rfl hl.1 rfl (Nat.le_of_ble_eq_true rfl) ⟨Nat.le_of_ble_eq_true rfl, Nat.le_of_ble_eq_true rfl⟩ dX4_mostEfficient_46 ?_
          clear hP hD hS
          intro H locs hP hD hS
          clear h_9
          refine lv_istore (lv' := [(4, .int r_10), (0, .ref o), (1, .int x16_1), (2, .int x16_2), (3, .int x16_3)]) hx hb dX4_mostEfficient_49 hl (by decide) rfl (fun ls hl => ?_)
          refine lv_iload hx hb dX4_mostEfficient_51 (lv_at hl 0 rfl) ?_
          refine lv_iload_n hx hb dX4_mostEfficient_53 rfl (lv_at hl 3 rfl) ?_
          refine lv_icmp_le (tgt := 62) hx hb dX4_mostEfficient_54 (by decide) (fun c_11 => ?_) (fun c_11 => ?_)
          · replace hf := it_t hf c_11
            clear c_11
            refine lv_iinc (v := x16_3 + (1 : Int32)) (lv' := [(3, .int (x16_3 + (1 : Int32))), (4, .int r_10), (0, .ref o), (1, .int x16_1), (2, .int x16_2)]) hx hb dX4_mostEfficient_62 hl (k := 4) rfl rfl (by decide) rfl (fun ls hl => ?_)
            refine lv_goto (tgt := 16) hx hb dX4_mostEfficient_65 (by decide) ?_
            exact ih x16_1 x16_2 (x16_3 + (1 : Int32)) μ_8 _ _ _ hf hP hD hS (lv_sub hl [2, 3, 4, 0] rfl)
          · replace hf := it_f hf c_11
            clear c_11
            refine lv_iload_n hx hb dX4_mostEfficient_57 rfl (lv_at hl 4 rfl) ?_
            refine lv_istore_n (lv' := [(1, .int x16_3), (4, .int r_10), (0, .ref o), (2, .int x16_2), (3, .int x16_3)]) hx hb dX4_mostEfficient_58 rfl hl (by decide) rfl (fun ls hl => ?_)
            refine lv_iload hx hb dX4_mostEfficient_59 (lv_at hl 1 rfl) ?_
            refine lv_istore_n (lv' := [(2, .int r_10), (1, .int x16_3), (4, .int r_10), (0, .ref o), (3, .int x16_3)]) hx hb dX4_mostEfficient_61 rfl hl (by decide) rfl (fun ls hl => ?_)
            refine lv_iinc (v := x16_3 + (1 : Int32)) (lv' := [(3, .int (x16_3 + (1 : Int32))), (2, .int r_10), (1, .int x16_3), (4, .int r_10), (0, .ref o)]) hx hb dX4_mostEfficient_62 hl (k := 4) rfl rfl (by decide) rfl (fun ls hl => ?_)
            refine lv_goto (tgt := 16) hx hb dX4_mostEfficient_65 (by decide) ?_
            exact ih x16_3 r_10 (x16_3 + (1 : Int32)) μ_8 _ _ _ hf hP hD hS (lv_sub hl [4, 2, 1, 0] rfl)
        · replace hf := it_f hf c_7
          clear c_7
          refine lv_goto (tgt := 62) hx hb dX4_mostEfficient_41 (by decide) ?_
          refine lv_iinc (v := x16_3 + (1 : Int32)) (lv' := [(3, .int (x16_3 + (1 : Int32))), (0, .ref o), (1, .int x16_1), (2, .int x16_2)]) hx hb dX4_mostEfficient_62 hl (k := 3) rfl rfl (by decide) rfl (fun ls hl => ?_)
          refine lv_goto (tgt := 16) hx hb dX4_mostEfficient_65 (by decide) ?_
          exact ih x16_1 x16_2 (x16_3 + (1 : Int32)) μ_4 _ _ _ hf hP hD hS (lv_sub hl [1, 2, 3, 0] rfl)
  unfold fX4_mostEfficient at hf
  refine lv_aload_n hx hb dX4_mostEfficient_0 rfl (lv_at hl 0 rfl) ?_
  refine m_get S hK hP 3 (by decide) q1603 rfl dX4_mostEfficient_1 ?_
  refine lv_if_ne (tgt := 9) hx hb dX4_mostEfficient_4 (by decide) (fun c_1 => ?_) (fun c_1 => ?_)
  · replace hf := it_f hf c_1
    clear c_1
    refine lv_bipush (v := -2) hx hb dX4_mostEfficient_9 (by decide) ?_
    refine lv_istore_n (lv' := [(1, .int (-2 : Int32)), (0, .ref o)]) hx hb dX4_mostEfficient_11 rfl hl (by decide) rfl (fun ls hl => ?_)
    refine lv_iconst (v := -1) hx hb dX4_mostEfficient_12 (by decide) ?_
    refine lv_istore_n (lv' := [(2, .int (-1 : Int32)), (1, .int (-2 : Int32)), (0, .ref o)]) hx hb dX4_mostEfficient_13 rfl hl (by decide) rfl (fun ls hl => ?_)
    refine lv_iconst (v := 0) hx hb dX4_mostEfficient_14 (by decide) ?_
    refine lv_istore_n (lv' := [(3, .int (0 : Int32)), (2, .int (-1 : Int32)), (1, .int (-2 : Int32)), (0, .ref o)]) hx hb dX4_mostEfficient_15 rfl hl (by decide) rfl (fun ls hl => ?_)
    exact L16 K (-2 : Int32) (-1 : Int32) (0 : Int32) μ _ _ _ hf hP hD hS (lv_sub hl [3, 2, 1, 0] rfl)
  · replace hf := it_t hf c_1
    clear c_1
    refine lv_iconst (v := -1) hx hb dX4_mostEfficient_7 (by decide) ?_
    exact hret _ _ _ _ _ _ hf dX4_mostEfficient_8 hP hD hS
def fX4_link (K : Nat) (p0 : Int32) (p1 : Int32) (μ : MS) : Option MS :=
  ga (ix (μ.1 44) 3) <|
  nm (sF μ 45 (upd (μ.2.2 45) (μ.1 44).toNatClampNeg p0)) fun μ_2 =>
  ga (ix (μ_2.1 44) 3) <|
  nm (sF μ_2 46 (upd (μ_2.2.2 46) (μ_2.1 44).toNatClampNeg p1)) fun μ_4 =>
  nm (sI μ_4 44 ((μ_4.1 44) + (1 : Int32))) fun μ_5 =>
  some μ_5
set_option maxHeartbeats 4000000 in
set_option maxRecDepth 100000 in
theorem tX4_link (l : Launch) (D : va_G) (d : Nat → ClassId) (z : ZT) (o : Nat) (a : Nat → Nat) (K : Nat) (p0 : Int32) (p1 : Int32) (μ : MS) (μ' : MS) (hf : fX4_link K p0 p1 μ = some μ') : CV l yX4_link (ws_ yX4_link cX4_link 3 (Option.none : Option Jvm.ClassFile.FieldType)) (rmc 0 0 0 0) D d z [.ref o, .int p0, .int p1] (MP d o a μ) (MP d o a μ') := by
  refine mV_of rfl (by decide) (Nat.le_of_ble_eq_true rfl) ?_
  intro p e s m args below meth c A Q ls S hK hP hD hZ hS hA hl hret
  have hx := S.1
  have hb := S.2.1
  have hts := S.2.2.2.2
  have hl : lv_has ls 3 [(0, .ref o), (1, .int p0), (2, .int p1)] := hl
  unfold fX4_link at hf
  refine lv_aload_n hx hb dX4_link_0 rfl (lv_at hl 0 rfl) ?_
  refine m_get S hK hP 45 (by decide) q1645 rfl dX4_link_1 ?_
  refine lv_aload_n hx hb dX4_link_4 rfl (lv_at hl 0 rfl) ?_
  refine m_get S hK hP 44 (by decide) q1644 rfl dX4_link_5 ?_
  refine lv_iload_n hx hb dX4_link_8 rfl (lv_at hl 1 rfl) ?_
  obtain ⟨g_1, hf⟩ := ga_some hf
  refine m_ist S hK hP hD hS 45 15 rfl g_1 rfl dX4_link_9 ?_
  clear hP hD hS
  intro μ_2 e_ H locs hP hD hS
  replace hf := nm_some hf μ_2 e_
  clear e_
  clear g_1
  refine lv_aload_n hx hb dX4_link_10 rfl (lv_at hl 0 rfl) ?_
  refine m_get S hK hP 46 (by decide) q1646 rfl dX4_link_11 ?_
  refine lv_aload_n hx hb dX4_link_14 rfl (lv_at hl 0 rfl) ?_
  refine m_get S hK hP 44 (by decide) q1644 rfl dX4_link_15 ?_
  refine lv_iload_n hx hb dX4_link_18 rfl (lv_at hl 2 rfl) ?_
  obtain ⟨g_3, hf⟩ := ga_some hf
  refine m_ist S hK hP hD hS 46 16 rfl g_3 rfl dX4_link_19 ?_
  clear hP hD hS
  intro μ_4 e_ H locs hP hD hS
  replace hf := nm_some hf μ_4 e_
  clear e_
  clear g_3
  refine lv_aload_n hx hb dX4_link_20 rfl (lv_at hl 0 rfl) ?_
  refine lv_dup hx hb dX4_link_21 rfl ?_
  refine m_get S hK hP 44 (by decide) q1644 rfl dX4_link_22 ?_
  refine lv_iconst (v := 1) hx hb dX4_link_25 (by decide) ?_
  refine lv_iadd hx hb dX4_link_26 ?_
  refine m_putI S hK hP hD hS 44 (by decide) q1644 rfl rfl rfl rfl rfl dX4_link_27 ?_
  clear hP hD hS
  intro μ_5 e_ H locs hP hD hS
  replace hf := nm_some hf μ_5 e_
  clear e_
  exact hret _ _ _ _ _ hf dX4_link_30 hP hD hS
def fX4_linkMissing (K : Nat) (μ : MS) : Option MS :=
  ga (ix (0 : Int32) 254) <|
  b1 (fX4_link K (5 : Int32) (μ.2.2 0 (0 : Int32).toNatClampNeg) μ) fun μ_2 =>
  ga (ix (0 : Int32) 254) <|
  b2 (fX4_band K (μ_2.2.2 0 (0 : Int32).toNatClampNeg) μ_2) fun r_7 μ_5 =>
  if 0 ≤ r_7 then
    some μ_5
  else
    b1 (fX4_link K (6 : Int32) (0 : Int32) μ_5) fun μ_9 =>
    some μ_9
set_option maxHeartbeats 4000000 in
set_option maxRecDepth 100000 in
theorem tX4_linkMissing (l : Launch) (D : va_G) (d : Nat → ClassId) (z : ZT) (o : Nat) (a : Nat → Nat) (K : Nat) (μ : MS) (μ' : MS) (hf : fX4_linkMissing K μ = some μ') : CV l yX4_linkMissing (ws_ yX4_linkMissing cX4_linkMissing 1 (Option.none : Option Jvm.ClassFile.FieldType)) (rmc 2 0 0 47) D d z [.ref o] (MP d o a μ) (MP d o a μ') := by
  refine mV_of rfl (by decide) (Nat.le_of_ble_eq_true rfl) ?_
  intro p e s m args below meth c A Q ls S hK hP hD hZ hS hA hl hret
  have hx := S.1
  have hb := S.2.1
  have hts := S.2.2.2.2
  have hl : lv_has ls 1 [(0, .ref o)] := hl
  unfold fX4_linkMissing at hf
  refine lv_aload_n hx hb dX4_linkMissing_0 rfl (lv_at hl 0 rfl) ?_
  refine lv_iconst (v := 5) hx hb dX4_linkMissing_1 (by decide) ?_
  refine lv_aload_n hx hb dX4_linkMissing_2 rfl (lv_at hl 0 rfl) ?_
  refine m_get S hK hP 0 (by decide) q1600 rfl dX4_linkMissing_3 ?_
  refine lv_iconst (v := 0) hx hb dX4_linkMissing_6 (by decide) ?_
  obtain ⟨g_1, hf⟩ := ga_some hf
  refine m_ild S hK hP 0 1 rfl g_1 dX4_linkMissing_7 ?_
  clear g_1
  obtain ⟨μ_2, h_3, hf⟩ := b1_some hf
  refine cv_call S hK hP hD hZ hS hA (tX4_link l D d z o a K (5 : Int32) (μ.2.2 0 (0 : Int32).toNatClampNeg) μ _ h_3) (cwV 2 hts (lw_V q2113 q2115 qs88 q101 q2116) rfl rfl rfl (by decide +kernel) ⟨Nat.le_of_ble_eq_true rfl, Nat.le_of_ble_eq_true rfl⟩) (ci := 0) (q0 := 0) rfl rfl rfl hl.1 rfl (Nat.le_of_ble_eq_true rfl) ⟨Nat.le_of_ble_eq_true rfl, Nat.le_of_ble_eq_true rfl⟩ dX4_linkMissing_8 ?_
  clear hP hD hS
  intro H locs hP hD hS
  clear h_3
  refine lv_aload_n hx hb dX4_linkMissing_11 rfl (lv_at hl 0 rfl) ?_
  refine lv_aload_n hx hb dX4_linkMissing_12 rfl (lv_at hl 0 rfl) ?_
  refine m_get S hK hP 0 (by decide) q1600 rfl dX4_linkMissing_13 ?_
  refine lv_iconst (v := 0) hx hb dX4_linkMissing_16 (by decide) ?_
  obtain ⟨g_4, hf⟩ := ga_some hf
  refine m_ild S hK hP 0 1 rfl g_4 dX4_linkMissing_17 ?_
  clear g_4
  obtain ⟨r_7, μ_5, h_6, hf⟩ := b2_some hf
  refine ci_call S hK hP hD hZ hS hA (tX4_band l D d z o a K (μ_2.2.2 0 (0 : Int32).toNatClampNeg) μ_2 _ _ h_6) (cwV 1 hts (lw_V q1910 q1912 qs72 q101 q1913) rfl rfl rfl (by decide +kernel) ⟨Nat.le_of_ble_eq_true rfl, Nat.le_of_ble_eq_true rfl⟩) (ci := 0) (q0 := 0) rfl rfl rfl hl.1 rfl (Nat.le_of_ble_eq_true rfl) ⟨Nat.le_of_ble_eq_true rfl, Nat.le_of_ble_eq_true rfl⟩ dX4_linkMissing_18 ?_
  clear hP hD hS
  intro H locs hP hD hS
  clear h_6
  refine lv_if_ge (tgt := 31) hx hb dX4_linkMissing_21 (by decide) (fun c_8 => ?_) (fun c_8 => ?_)
  · replace hf := it_t hf c_8
    clear c_8
    exact hret _ _ _ _ _ hf dX4_linkMissing_31 hP hD hS
  · replace hf := it_f hf c_8
    clear c_8
    refine lv_aload_n hx hb dX4_linkMissing_24 rfl (lv_at hl 0 rfl) ?_
    refine lv_bipush (v := 6) hx hb dX4_linkMissing_25 (by decide) ?_
    refine lv_iconst (v := 0) hx hb dX4_linkMissing_27 (by decide) ?_
    obtain ⟨μ_9, h_10, hf⟩ := b1_some hf
    refine cv_call S hK hP hD hZ hS hA (tX4_link l D d z o a K (6 : Int32) (0 : Int32) μ_5 _ h_10) (cwV 2 hts (lw_V q2113 q2115 qs88 q101 q2116) rfl rfl rfl (by decide +kernel) ⟨Nat.le_of_ble_eq_true rfl, Nat.le_of_ble_eq_true rfl⟩) (ci := 0) (q0 := 0) rfl rfl rfl hl.1 rfl (Nat.le_of_ble_eq_true rfl) ⟨Nat.le_of_ble_eq_true rfl, Nat.le_of_ble_eq_true rfl⟩ dX4_linkMissing_28 ?_
    clear hP hD hS
    intro H locs hP hD hS
    clear h_10
    exact hret _ _ _ _ _ hf dX4_linkMissing_31 hP hD hS
def fX4_failureDepth (K : Nat) (μ : MS) : Option (Int32 × MS) :=
  if (μ.1 3) = 0 then
    some ((-1 : Int32), μ)
  else
    some (μ.1 44, μ)
set_option maxHeartbeats 4000000 in
set_option maxRecDepth 100000 in
theorem tX4_failureDepth (l : Launch) (D : va_G) (d : Nat → ClassId) (z : ZT) (o : Nat) (a : Nat → Nat) (K : Nat) (μ : MS) (r : Int32) (μ' : MS) (hf : fX4_failureDepth K μ = some (r, μ')) : CI l yX4_failureDepth (ws_ yX4_failureDepth cX4_failureDepth 1 (Option.some Jvm.ClassFile.FieldType.int)) (rmc 0 0 0 0) D d z [.ref o] (MP d o a μ) r (MP d o a μ') := by
  refine mI_of rfl (by decide) (Nat.le_of_ble_eq_true rfl) ?_
  intro p e s m args below meth c A Q ls S hK hP hD hZ hS hA hl hret
  have hx := S.1
  have hb := S.2.1
  have hts := S.2.2.2.2
  have hl : lv_has ls 1 [(0, .ref o)] := hl
  unfold fX4_failureDepth at hf
  refine lv_aload_n hx hb dX4_failureDepth_0 rfl (lv_at hl 0 rfl) ?_
  refine m_get S hK hP 3 (by decide) q1603 rfl dX4_failureDepth_1 ?_
  refine lv_if_eq (tgt := 14) hx hb dX4_failureDepth_4 (by decide) (fun c_1 => ?_) (fun c_1 => ?_)
  · replace hf := it_t hf c_1
    clear c_1
    refine lv_iconst (v := -1) hx hb dX4_failureDepth_14 (by decide) ?_
    exact hret _ _ _ _ _ _ hf dX4_failureDepth_15 hP hD hS
  · replace hf := it_f hf c_1
    clear c_1
    refine lv_aload_n hx hb dX4_failureDepth_7 rfl (lv_at hl 0 rfl) ?_
    refine m_get S hK hP 44 (by decide) q1644 rfl dX4_failureDepth_8 ?_
    refine lv_goto (tgt := 15) hx hb dX4_failureDepth_11 (by decide) ?_
    exact hret _ _ _ _ _ _ hf dX4_failureDepth_15 hP hD hS
def fX4_failureKind (K : Nat) (p0 : Int32) (μ : MS) : Option (Int32 × MS) :=
  if (μ.1 3) = 0 then
    some ((-1 : Int32), μ)
  else
    b1 (fX4_isIn K p0.toInt64 (0 : Int64) (((μ.1 44) - (1 : Int32)).toInt64)) fun r_2 =>
    if r_2 = true then
      ga (ix p0 3) <|
      some (μ.2.2 45 p0.toNatClampNeg, μ)
    else
      some ((-1 : Int32), μ)
set_option maxHeartbeats 4000000 in
set_option maxRecDepth 100000 in
theorem tX4_failureKind (l : Launch) (D : va_G) (d : Nat → ClassId) (z : ZT) (o : Nat) (a : Nat → Nat) (K : Nat) (p0 : Int32) (μ : MS) (r : Int32) (μ' : MS) (hf : fX4_failureKind K p0 μ = some (r, μ')) : CI l yX4_failureKind (ws_ yX4_failureKind cX4_failureKind 2 (Option.some Jvm.ClassFile.FieldType.int)) (rmc 1 0 0 25) D d z [.ref o, .int p0] (MP d o a μ) r (MP d o a μ') := by
  refine mI_of rfl (by decide) (Nat.le_of_ble_eq_true rfl) ?_
  intro p e s m args below meth c A Q ls S hK hP hD hZ hS hA hl hret
  have hx := S.1
  have hb := S.2.1
  have hts := S.2.2.2.2
  have hl : lv_has ls 2 [(0, .ref o), (1, .int p0)] := hl
  unfold fX4_failureKind at hf
  refine lv_aload_n hx hb dX4_failureKind_0 rfl (lv_at hl 0 rfl) ?_
  refine m_get S hK hP 3 (by decide) q1603 rfl dX4_failureKind_1 ?_
  refine lv_if_eq (tgt := 32) hx hb dX4_failureKind_4 (by decide) (fun c_1 => ?_) (fun c_1 => ?_)
  · replace hf := it_t hf c_1
    clear c_1
    refine lv_iconst (v := -1) hx hb dX4_failureKind_32 (by decide) ?_
    exact hret _ _ _ _ _ _ hf dX4_failureKind_33 hP hD hS
  · replace hf := it_f hf c_1
    clear c_1
    refine lv_iload_n hx hb dX4_failureKind_7 rfl (lv_at hl 1 rfl) ?_
    refine lv_i2l (v := p0.toInt64) hx hb dX4_failureKind_8 rfl ?_
    refine lv_lconst (v := 0) hx hb dX4_failureKind_9 (by decide) ?_
    refine lv_aload_n hx hb dX4_failureKind_10 rfl (lv_at hl 0 rfl) ?_
    refine m_get S hK hP 44 (by decide) q1644 rfl dX4_failureKind_11 ?_
    refine lv_iconst (v := 1) hx hb dX4_failureKind_14 (by decide) ?_
    refine lv_isub hx hb dX4_failureKind_15 ?_
    refine lv_i2l (v := ((μ.1 44) - (1 : Int32)).toInt64) hx hb dX4_failureKind_16 rfl ?_
    obtain ⟨r_2, h_3, hf⟩ := b1_some hf
    refine si_call S (tX4_isIn l K p0.toInt64 (0 : Int64) (((μ.1 44) - (1 : Int32)).toInt64) _ h_3) (va_cwS 3 hts (lw_S q1754 q1755 q101 q1756) rfl rfl rfl (by decide +kernel) ⟨Nat.le_of_ble_eq_true rfl, Nat.le_of_ble_eq_true rfl⟩) rfl hl.1 rfl (Nat.le_of_ble_eq_true rfl) ⟨Nat.le_of_ble_eq_true rfl, Nat.le_of_ble_eq_true rfl⟩ dX4_failureKind_17 ?_
    clear h_3
    refine lv_if_eq (tgt := 32) hx hb dX4_failureKind_20 (by decide) (fun c_4 => ?_) (fun c_4 => ?_)
    · replace hf := it_f hf (bi_e0 c_4)
      clear c_4
      refine lv_iconst (v := -1) hx hb dX4_failureKind_32 (by decide) ?_
      exact hret _ _ _ _ _ _ hf dX4_failureKind_33 hP hD hS
    · replace hf := it_t hf (bi_n0 c_4)
      clear c_4
      refine lv_aload_n hx hb dX4_failureKind_23 rfl (lv_at hl 0 rfl) ?_
      refine m_get S hK hP 45 (by decide) q1645 rfl dX4_failureKind_24 ?_
      refine lv_iload_n hx hb dX4_failureKind_27 rfl (lv_at hl 1 rfl) ?_
      obtain ⟨g_5, hf⟩ := ga_some hf
      refine m_ild S hK hP 45 15 rfl g_5 dX4_failureKind_28 ?_
      clear g_5
      refine lv_goto (tgt := 33) hx hb dX4_failureKind_29 (by decide) ?_
      exact hret _ _ _ _ _ _ hf dX4_failureKind_33 hP hD hS
def fX4_failureValue (K : Nat) (p0 : Int32) (μ : MS) : Option (Int32 × MS) :=
  if (μ.1 3) = 0 then
    some ((-1 : Int32), μ)
  else
    b1 (fX4_isIn K p0.toInt64 (0 : Int64) (((μ.1 44) - (1 : Int32)).toInt64)) fun r_2 =>
    if r_2 = true then
      ga (ix p0 3) <|
      some (μ.2.2 46 p0.toNatClampNeg, μ)
    else
      some ((-1 : Int32), μ)
set_option maxHeartbeats 4000000 in
set_option maxRecDepth 100000 in
theorem tX4_failureValue (l : Launch) (D : va_G) (d : Nat → ClassId) (z : ZT) (o : Nat) (a : Nat → Nat) (K : Nat) (p0 : Int32) (μ : MS) (r : Int32) (μ' : MS) (hf : fX4_failureValue K p0 μ = some (r, μ')) : CI l yX4_failureValue (ws_ yX4_failureValue cX4_failureValue 2 (Option.some Jvm.ClassFile.FieldType.int)) (rmc 1 0 0 25) D d z [.ref o, .int p0] (MP d o a μ) r (MP d o a μ') := by
  refine mI_of rfl (by decide) (Nat.le_of_ble_eq_true rfl) ?_
  intro p e s m args below meth c A Q ls S hK hP hD hZ hS hA hl hret
  have hx := S.1
  have hb := S.2.1
  have hts := S.2.2.2.2
  have hl : lv_has ls 2 [(0, .ref o), (1, .int p0)] := hl
  unfold fX4_failureValue at hf
  refine lv_aload_n hx hb dX4_failureValue_0 rfl (lv_at hl 0 rfl) ?_
  refine m_get S hK hP 3 (by decide) q1603 rfl dX4_failureValue_1 ?_
  refine lv_if_eq (tgt := 32) hx hb dX4_failureValue_4 (by decide) (fun c_1 => ?_) (fun c_1 => ?_)
  · replace hf := it_t hf c_1
    clear c_1
    refine lv_iconst (v := -1) hx hb dX4_failureValue_32 (by decide) ?_
    exact hret _ _ _ _ _ _ hf dX4_failureValue_33 hP hD hS
  · replace hf := it_f hf c_1
    clear c_1
    refine lv_iload_n hx hb dX4_failureValue_7 rfl (lv_at hl 1 rfl) ?_
    refine lv_i2l (v := p0.toInt64) hx hb dX4_failureValue_8 rfl ?_
    refine lv_lconst (v := 0) hx hb dX4_failureValue_9 (by decide) ?_
    refine lv_aload_n hx hb dX4_failureValue_10 rfl (lv_at hl 0 rfl) ?_
    refine m_get S hK hP 44 (by decide) q1644 rfl dX4_failureValue_11 ?_
    refine lv_iconst (v := 1) hx hb dX4_failureValue_14 (by decide) ?_
    refine lv_isub hx hb dX4_failureValue_15 ?_
    refine lv_i2l (v := ((μ.1 44) - (1 : Int32)).toInt64) hx hb dX4_failureValue_16 rfl ?_
    obtain ⟨r_2, h_3, hf⟩ := b1_some hf
    refine si_call S (tX4_isIn l K p0.toInt64 (0 : Int64) (((μ.1 44) - (1 : Int32)).toInt64) _ h_3) (va_cwS 3 hts (lw_S q1754 q1755 q101 q1756) rfl rfl rfl (by decide +kernel) ⟨Nat.le_of_ble_eq_true rfl, Nat.le_of_ble_eq_true rfl⟩) rfl hl.1 rfl (Nat.le_of_ble_eq_true rfl) ⟨Nat.le_of_ble_eq_true rfl, Nat.le_of_ble_eq_true rfl⟩ dX4_failureValue_17 ?_
    clear h_3
    refine lv_if_eq (tgt := 32) hx hb dX4_failureValue_20 (by decide) (fun c_4 => ?_) (fun c_4 => ?_)
    · replace hf := it_f hf (bi_e0 c_4)
      clear c_4
      refine lv_iconst (v := -1) hx hb dX4_failureValue_32 (by decide) ?_
      exact hret _ _ _ _ _ _ hf dX4_failureValue_33 hP hD hS
    · replace hf := it_t hf (bi_n0 c_4)
      clear c_4
      refine lv_aload_n hx hb dX4_failureValue_23 rfl (lv_at hl 0 rfl) ?_
      refine m_get S hK hP 46 (by decide) q1646 rfl dX4_failureValue_24 ?_
      refine lv_iload_n hx hb dX4_failureValue_27 rfl (lv_at hl 1 rfl) ?_
      obtain ⟨g_5, hf⟩ := ga_some hf
      refine m_ild S hK hP 46 16 rfl g_5 dX4_failureValue_28 ?_
      clear g_5
      refine lv_goto (tgt := 33) hx hb dX4_failureValue_29 (by decide) ?_
      exact hret _ _ _ _ _ _ hf dX4_failureValue_33 hP hD hS
def fX4_isEntry (K : Nat) (p0 : Int32) (μ : MS) : Option (Bool × MS) :=
  if (μ.1 3) = 0 then
    some (false, μ)
  else
    ga (ix (205 : Int32) 254) <|
    b1 (fX4_isIn K p0.toInt64 (0 : Int64) (((μ.2.2 0 (205 : Int32).toNatClampNeg) - (1 : Int32)).toInt64)) fun r_3 =>
    if r_3 = true then
      some (true, μ)
    else
      some (false, μ)
set_option maxHeartbeats 4000000 in
set_option maxRecDepth 100000 in
theorem tX4_isEntry (l : Launch) (D : va_G) (d : Nat → ClassId) (z : ZT) (o : Nat) (a : Nat → Nat) (K : Nat) (p0 : Int32) (μ : MS) (r : Bool) (μ' : MS) (hf : fX4_isEntry K p0 μ = some (r, μ')) : CI l yX4_isEntry (ws_ yX4_isEntry cX4_isEntry 2 (Option.some Jvm.ClassFile.FieldType.boolean)) (rmc 1 0 0 25) D d z [.ref o, .int p0] (MP d o a μ) (bi r) (MP d o a μ') := by
  refine mZ_of rfl (by decide) (Nat.le_of_ble_eq_true rfl) ?_
  intro p e s m args below meth c A Q ls S hK hP hD hZ hS hA hl hret
  have hx := S.1
  have hb := S.2.1
  have hts := S.2.2.2.2
  have hl : lv_has ls 2 [(0, .ref o), (1, .int p0)] := hl
  unfold fX4_isEntry at hf
  refine lv_aload_n hx hb dX4_isEntry_0 rfl (lv_at hl 0 rfl) ?_
  refine m_get S hK hP 3 (by decide) q1603 rfl dX4_isEntry_1 ?_
  refine lv_if_eq (tgt := 31) hx hb dX4_isEntry_4 (by decide) (fun c_1 => ?_) (fun c_1 => ?_)
  · replace hf := it_t hf c_1
    clear c_1
    refine lv_iconst (v := 0) hx hb dX4_isEntry_31 (by decide) ?_
    exact hret _ _ _ _ _ _ hf dX4_isEntry_32 hP hD hS
  · replace hf := it_f hf c_1
    clear c_1
    refine lv_iload_n hx hb dX4_isEntry_7 rfl (lv_at hl 1 rfl) ?_
    refine lv_i2l (v := p0.toInt64) hx hb dX4_isEntry_8 rfl ?_
    refine lv_lconst (v := 0) hx hb dX4_isEntry_9 (by decide) ?_
    refine lv_aload_n hx hb dX4_isEntry_10 rfl (lv_at hl 0 rfl) ?_
    refine m_get S hK hP 0 (by decide) q1600 rfl dX4_isEntry_11 ?_
    refine lv_sipush (v := 205) hx hb dX4_isEntry_14 (by decide) ?_
    obtain ⟨g_2, hf⟩ := ga_some hf
    refine m_ild S hK hP 0 1 rfl g_2 dX4_isEntry_17 ?_
    clear g_2
    refine lv_iconst (v := 1) hx hb dX4_isEntry_18 (by decide) ?_
    refine lv_isub hx hb dX4_isEntry_19 ?_
    refine lv_i2l (v := ((μ.2.2 0 (205 : Int32).toNatClampNeg) - (1 : Int32)).toInt64) hx hb dX4_isEntry_20 rfl ?_
    obtain ⟨r_3, h_4, hf⟩ := b1_some hf
    refine si_call S (tX4_isIn l K p0.toInt64 (0 : Int64) (((μ.2.2 0 (205 : Int32).toNatClampNeg) - (1 : Int32)).toInt64) _ h_4) (va_cwS 3 hts (lw_S q1754 q1755 q101 q1756) rfl rfl rfl (by decide +kernel) ⟨Nat.le_of_ble_eq_true rfl, Nat.le_of_ble_eq_true rfl⟩) rfl hl.1 rfl (Nat.le_of_ble_eq_true rfl) ⟨Nat.le_of_ble_eq_true rfl, Nat.le_of_ble_eq_true rfl⟩ dX4_isEntry_21 ?_
    clear h_4
    refine lv_if_eq (tgt := 31) hx hb dX4_isEntry_24 (by decide) (fun c_5 => ?_) (fun c_5 => ?_)
    · replace hf := it_f hf (bi_e0 c_5)
      clear c_5
      refine lv_iconst (v := 0) hx hb dX4_isEntry_31 (by decide) ?_
      exact hret _ _ _ _ _ _ hf dX4_isEntry_32 hP hD hS
    · replace hf := it_t hf (bi_n0 c_5)
      clear c_5
      refine lv_iconst (v := 1) hx hb dX4_isEntry_27 (by decide) ?_
      refine lv_goto (tgt := 32) hx hb dX4_isEntry_28 (by decide) ?_
      exact hret _ _ _ _ _ _ hf dX4_isEntry_32 hP hD hS
def fX4_suitable_L111 (K : Nat) (k18 : Int32 → Int32 → Int32 → Int32 → MS → Option (Int32 × MS)) (x111_1 : Int32) (x111_4 : Int32) (x111_5 : Int32) (μ111 : MS) : Option (Int32 × MS) :=
  k18 x111_1 x111_4 x111_5 (x111_4 + (1 : Int32)) μ111
def fX4_suitable_L94 (K : Nat) (k18 : Int32 → Int32 → Int32 → Int32 → MS → Option (Int32 × MS)) (t94_0 : Int32) (x94_1 : Int32) (x94_2 : Int32) (x94_3 : Int32) (x94_4 : Int32) (x94_5 : Int32) (μ94 : MS) : Option (Int32 × MS) :=
  if t94_0 = 0 then
    k18 x94_1 x94_2 x94_3 (x94_4 + (1 : Int32)) μ94
  else
    if x94_2 < 0 then
      fX4_suitable_L111 K k18 x94_1 x94_4 x94_5 μ94
    else
      if x94_3 ≤ x94_5 then
        k18 x94_1 x94_2 x94_3 (x94_4 + (1 : Int32)) μ94
      else
        fX4_suitable_L111 K k18 x94_1 x94_4 x94_5 μ94
def fX4_suitable_L93 (K : Nat) (k18 : Int32 → Int32 → Int32 → Int32 → MS → Option (Int32 × MS)) (x93_1 : Int32) (x93_2 : Int32) (x93_3 : Int32) (x93_4 : Int32) (x93_5 : Int32) (μ93 : MS) : Option (Int32 × MS) :=
  fX4_suitable_L94 K k18 (0 : Int32) x93_1 x93_2 x93_3 x93_4 x93_5 μ93
def fX4_suitable_L64 (K : Nat) (k18 : Int32 → Int32 → Int32 → Int32 → MS → Option (Int32 × MS)) (t64_0 : Int32) (x64_1 : Int32) (x64_2 : Int32) (x64_3 : Int32) (x64_4 : Int32) (μ64 : MS) : Option (Int32 × MS) :=
  if x64_1 < 0 then
    fX4_suitable_L93 K k18 x64_1 x64_2 x64_3 x64_4 t64_0 μ64
  else
    ga (ix ((206 : Int32) + x64_4) 254) <|
    b2 (fX4_band K (μ64.2.2 0 ((206 : Int32) + x64_4).toNatClampNeg) μ64) fun r_18 μ_16 =>
    if r_18 = x64_1 then
      fX4_suitable_L94 K k18 (1 : Int32) x64_1 x64_2 x64_3 x64_4 t64_0 μ_16
    else
      fX4_suitable_L93 K k18 x64_1 x64_2 x64_3 x64_4 t64_0 μ_16
def fX4_suitable_L18 (K : Nat) : Nat → Int32 → Int32 → Int32 → Int32 → MS → Option (Int32 × MS)
  | 0, _, _, _, _, _ => none
  | n + 1, x18_1, x18_2, x18_3, x18_4, μ18 =>
    ga (ix (205 : Int32) 254) <|
    if (μ18.2.2 0 (205 : Int32).toNatClampNeg) ≤ x18_4 then
      some (x18_2, μ18)
    else
      ga (ix ((206 : Int32) + x18_4) 254) <|
      ga (ix (0 : Int32) 254) <|
      nm ((μ18.2.2 0 ((206 : Int32) + x18_4).toNatClampNeg) - (μ18.2.2 0 (0 : Int32).toNatClampNeg)) fun v_9 =>
      if 0 ≤ v_9 then
        fX4_suitable_L64 K (fX4_suitable_L18 K n) v_9 x18_1 x18_2 x18_3 x18_4 μ18
      else
        fX4_suitable_L64 K (fX4_suitable_L18 K n) (-v_9) x18_1 x18_2 x18_3 x18_4 μ18
def fX4_suitable (K : Nat) (μ : MS) : Option (Int32 × MS) :=
  ga (ix (0 : Int32) 254) <|
  b2 (fX4_band K (μ.2.2 0 (0 : Int32).toNatClampNeg) μ) fun r_4 μ_2 =>
  fX4_suitable_L18 K K r_4 (-1 : Int32) (0 : Int32) (0 : Int32) μ_2
set_option maxHeartbeats 4000000 in
set_option maxRecDepth 100000 in
theorem tX4_suitable (l : Launch) (D : va_G) (d : Nat → ClassId) (z : ZT) (o : Nat) (a : Nat → Nat) (K : Nat) (μ : MS) (r : Int32) (μ' : MS) (hf : fX4_suitable K μ = some (r, μ')) : CI l yX4_suitable (ws_ yX4_suitable cX4_suitable 7 (Option.some Jvm.ClassFile.FieldType.int)) (rmc 2 0 0 47) D d z [.ref o] (MP d o a μ) r (MP d o a μ') := by
  refine mI_of rfl (by decide) (Nat.le_of_ble_eq_true rfl) ?_
  intro p e s m args below meth c A Q ls S hK hP hD hZ hS hA hl hret
  have hx := S.1
  have hb := S.2.1
  have hts := S.2.2.2.2
  have hl : lv_has ls 7 [(0, .ref o)] := hl
  have L18 : ∀ (n : Nat) (x18_1 : Int32) (x18_2 : Int32) (x18_3 : Int32) (x18_4 : Int32) (μ18 : MS) (H : Heap) (locs : List Loc) (ls : Array Slot), fX4_suitable_L18 K n x18_1 x18_2 x18_3 x18_4 μ18 = some (r, μ') → va_P D CL (MP d o a μ18) H → va_D A (MP d o a μ18) → va_S A s.heap H locs → lv_has ls 7 [(0, .ref o), (1, .int x18_1), (2, .int x18_2), (3, .int x18_3), (4, .int x18_4)] → W p l e (rmc 2 0 0 47) s m args below meth c H locs 0 0 Q (F0 m 18 ls []) := by
    intro n
    induction n with
    | zero =>
      intro x18_1 x18_2 x18_3 x18_4 μ18 H locs ls hf hP hD hS hl
      rw [fX4_suitable_L18] at hf
      cases hf
    | succ n ih =>
      have ih18 := ih
      have L111 : ∀ (x111_1 : Int32) (x111_4 : Int32) (x111_5 : Int32) (μ111 : MS) (H : Heap) (locs : List Loc) (ls : Array Slot), fX4_suitable_L111 K (fX4_suitable_L18 K n) x111_1 x111_4 x111_5 μ111 = some (r, μ') → va_P D CL (MP d o a μ111) H → va_D A (MP d o a μ111) → va_S A s.heap H locs → lv_has ls 7 [(0, .ref o), (1, .int x111_1), (4, .int x111_4), (5, .int x111_5)] → W p l e (rmc 2 0 0 47) s m args below meth c H locs 0 0 Q (F0 m 111 ls []) := by
        intro x111_1 x111_4 x111_5 μ111 H locs ls hf hP hD hS hl
        unfold fX4_suitable_L111 at hf
        refine lv_iload hx hb dX4_suitable_111 (lv_at hl 2 rfl) ?_
        refine lv_istore_n (lv' := [(2, .int x111_4), (0, .ref o), (1, .int x111_1), (4, .int x111_4), (5, .int x111_5)]) hx hb dX4_suitable_113 rfl hl (by decide) rfl (fun ls hl => ?_)
        refine lv_iload hx hb dX4_suitable_114 (lv_at hl 4 rfl) ?_
        refine lv_istore_n (lv' := [(3, .int x111_5), (2, .int x111_4), (0, .ref o), (1, .int x111_1), (4, .int x111_4), (5, .int x111_5)]) hx hb dX4_suitable_116 rfl hl (by decide) rfl (fun ls hl => ?_)
        refine lv_iinc (v := x111_4 + (1 : Int32)) (lv' := [(4, .int (x111_4 + (1 : Int32))), (3, .int x111_5), (2, .int x111_4), (0, .ref o), (1, .int x111_1), (5, .int x111_5)]) hx hb dX4_suitable_117 hl (k := 4) rfl rfl (by decide) rfl (fun ls hl => ?_)
        refine lv_goto (tgt := 18) hx hb dX4_suitable_120 (by decide) ?_
        exact ih18 x111_1 x111_4 x111_5 (x111_4 + (1 : Int32)) μ111 _ _ _ hf hP hD hS (lv_sub hl [3, 4, 2, 1, 0] rfl)
      have L94 : ∀ (t94_0 : Int32) (x94_1 : Int32) (x94_2 : Int32) (x94_3 : Int32) (x94_4 : Int32) (x94_5 : Int32) (μ94 : MS) (H : Heap) (locs : List Loc) (ls : Array Slot), fX4_suitable_L94 K (fX4_suitable_L18 K n) t94_0 x94_1 x94_2 x94_3 x94_4 x94_5 μ94 = some (r, μ') → va_P D CL (MP d o a μ94) H → va_D A (MP d o a μ94) → va_S A s.heap H locs → lv_has ls 7 [(0, .ref o), (1, .int x94_1), (2, .int x94_2), (3, .int x94_3), (4, .int x94_4), (5, .int x94_5)] → W p l e (rmc 2 0 0 47) s m args below meth c H locs 0 0 Q (F0 m 94 ls [.int t94_0]) := by
        intro t94_0 x94_1 x94_2 x94_3 x94_4 x94_5 μ94 H locs ls hf hP hD hS hl
        unfold fX4_suitable_L94 at hf
        refine lv_istore (lv' := [(6, .int t94_0), (0, .ref o), (1, .int x94_1), (2, .int x94_2), (3, .int x94_3), (4, .int x94_4), (5, .int x94_5)]) hx hb dX4_suitable_94 hl (by decide) rfl (fun ls hl => ?_)
        refine lv_iload hx hb dX4_suitable_96 (lv_at hl 0 rfl) ?_
        refine lv_if_eq (tgt := 117) hx hb dX4_suitable_98 (by decide) (fun c_12 => ?_) (fun c_12 => ?_)
        · replace hf := it_t hf c_12
          clear c_12
          refine lv_iinc (v := x94_4 + (1 : Int32)) (lv' := [(4, .int (x94_4 + (1 : Int32))), (6, .int t94_0), (0, .ref o), (1, .int x94_1), (2, .int x94_2), (3, .int x94_3), (5, .int x94_5)]) hx hb dX4_suitable_117 hl (k := 5) rfl rfl (by decide) rfl (fun ls hl => ?_)
          refine lv_goto (tgt := 18) hx hb dX4_suitable_120 (by decide) ?_
          exact ih18 x94_1 x94_2 x94_3 (x94_4 + (1 : Int32)) μ94 _ _ _ hf hP hD hS (lv_sub hl [2, 3, 4, 5, 0] rfl)
        · replace hf := it_f hf c_12
          clear c_12
          refine lv_iload_n hx hb dX4_suitable_101 rfl (lv_at hl 3 rfl) ?_
          refine lv_if_lt (tgt := 111) hx hb dX4_suitable_102 (by decide) (fun c_13 => ?_) (fun c_13 => ?_)
          · replace hf := it_t hf c_13
            clear c_13
            exact L111 x94_1 x94_4 x94_5 μ94 _ _ _ hf hP hD hS (lv_sub hl [1, 2, 5, 6] rfl)
          · replace hf := it_f hf c_13
            clear c_13
            refine lv_iload hx hb dX4_suitable_105 (lv_at hl 6 rfl) ?_
            refine lv_iload_n hx hb dX4_suitable_107 rfl (lv_at hl 4 rfl) ?_
            refine lv_icmp_ge (tgt := 117) hx hb dX4_suitable_108 (by decide) (fun c_14 => ?_) (fun c_14 => ?_)
            · replace hf := it_t hf c_14
              clear c_14
              refine lv_iinc (v := x94_4 + (1 : Int32)) (lv' := [(4, .int (x94_4 + (1 : Int32))), (6, .int t94_0), (0, .ref o), (1, .int x94_1), (2, .int x94_2), (3, .int x94_3), (5, .int x94_5)]) hx hb dX4_suitable_117 hl (k := 5) rfl rfl (by decide) rfl (fun ls hl => ?_)
              refine lv_goto (tgt := 18) hx hb dX4_suitable_120 (by decide) ?_
              exact ih18 x94_1 x94_2 x94_3 (x94_4 + (1 : Int32)) μ94 _ _ _ hf hP hD hS (lv_sub hl [2, 3, 4, 5, 0] rfl)
            · replace hf := it_f hf c_14
              clear c_14
              exact L111 x94_1 x94_4 x94_5 μ94 _ _ _ hf hP hD hS (lv_sub hl [1, 2, 5, 6] rfl)
      have L93 : ∀ (x93_1 : Int32) (x93_2 : Int32) (x93_3 : Int32) (x93_4 : Int32) (x93_5 : Int32) (μ93 : MS) (H : Heap) (locs : List Loc) (ls : Array Slot), fX4_suitable_L93 K (fX4_suitable_L18 K n) x93_1 x93_2 x93_3 x93_4 x93_5 μ93 = some (r, μ') → va_P D CL (MP d o a μ93) H → va_D A (MP d o a μ93) → va_S A s.heap H locs → lv_has ls 7 [(0, .ref o), (1, .int x93_1), (2, .int x93_2), (3, .int x93_3), (4, .int x93_4), (5, .int x93_5)] → W p l e (rmc 2 0 0 47) s m args below meth c H locs 0 0 Q (F0 m 93 ls []) := by
        intro x93_1 x93_2 x93_3 x93_4 x93_5 μ93 H locs ls hf hP hD hS hl
        unfold fX4_suitable_L93 at hf
        refine lv_iconst (v := 0) hx hb dX4_suitable_93 (by decide) ?_
        exact L94 (0 : Int32) x93_1 x93_2 x93_3 x93_4 x93_5 μ93 _ _ _ hf hP hD hS (lv_sub hl [0, 1, 2, 3, 4, 5] rfl)
      have L64 : ∀ (t64_0 : Int32) (x64_1 : Int32) (x64_2 : Int32) (x64_3 : Int32) (x64_4 : Int32) (μ64 : MS) (H : Heap) (locs : List Loc) (ls : Array Slot), fX4_suitable_L64 K (fX4_suitable_L18 K n) t64_0 x64_1 x64_2 x64_3 x64_4 μ64 = some (r, μ') → va_P D CL (MP d o a μ64) H → va_D A (MP d o a μ64) → va_S A s.heap H locs → lv_has ls 7 [(0, .ref o), (1, .int x64_1), (2, .int x64_2), (3, .int x64_3), (4, .int x64_4)] → W p l e (rmc 2 0 0 47) s m args below meth c H locs 0 0 Q (F0 m 64 ls [.int t64_0]) := by
        intro t64_0 x64_1 x64_2 x64_3 x64_4 μ64 H locs ls hf hP hD hS hl
        unfold fX4_suitable_L64 at hf
        refine lv_istore (lv' := [(5, .int t64_0), (0, .ref o), (1, .int x64_1), (2, .int x64_2), (3, .int x64_3), (4, .int x64_4)]) hx hb dX4_suitable_64 hl (by decide) rfl (fun ls hl => ?_)
        refine lv_iload_n hx hb dX4_suitable_66 rfl (lv_at hl 2 rfl) ?_
        refine lv_if_lt (tgt := 93) hx hb dX4_suitable_67 (by decide) (fun c_11 => ?_) (fun c_11 => ?_)
        · replace hf := it_t hf c_11
          clear c_11
          exact L93 x64_1 x64_2 x64_3 x64_4 t64_0 μ64 _ _ _ hf hP hD hS (lv_sub hl [1, 2, 3, 4, 5, 0] rfl)
        · replace hf := it_f hf c_11
          clear c_11
          refine lv_aload_n hx hb dX4_suitable_70 rfl (lv_at hl 1 rfl) ?_
          refine lv_aload_n hx hb dX4_suitable_71 rfl (lv_at hl 1 rfl) ?_
          refine m_get S hK hP 0 (by decide) q1600 rfl dX4_suitable_72 ?_
          refine lv_sipush (v := 206) hx hb dX4_suitable_75 (by decide) ?_
          refine lv_iload hx hb dX4_suitable_78 (lv_at hl 5 rfl) ?_
          refine lv_iadd hx hb dX4_suitable_80 ?_
          obtain ⟨g_15, hf⟩ := ga_some hf
          refine m_ild S hK hP 0 1 rfl g_15 dX4_suitable_81 ?_
          clear g_15
          obtain ⟨r_18, μ_16, h_17, hf⟩ := b2_some hf
          refine ci_call S hK hP hD hZ hS hA (tX4_band l D d z o a K (μ64.2.2 0 ((206 : Int32) + x64_4).toNatClampNeg) μ64 _ _ h_17) (cwV 1 hts (lw_V q1910 q1912 qs72 q101 q1913) rfl rfl rfl (by decide +kernel) ⟨Nat.le_of_ble_eq_true rfl, Nat.le_of_ble_eq_true rfl⟩) (ci := 0) (q0 := 0) rfl rfl rfl hl.1 rfl (Nat.le_of_ble_eq_true rfl) ⟨Nat.le_of_ble_eq_true rfl, Nat.le_of_ble_eq_true rfl⟩ dX4_suitable_82 ?_
          clear hP hD hS
          intro H locs hP hD hS
          clear h_17
          refine lv_iload_n hx hb dX4_suitable_85 rfl (lv_at hl 2 rfl) ?_
          refine lv_icmp_ne (tgt := 93) hx hb dX4_suitable_86 (by decide) (fun c_19 => ?_) (fun c_19 => ?_)
          · replace hf := it_f hf c_19
            clear c_19
            exact L93 x64_1 x64_2 x64_3 x64_4 t64_0 μ_16 _ _ _ hf hP hD hS (lv_sub hl [1, 2, 3, 4, 5, 0] rfl)
          · replace hf := it_t hf c_19
            clear c_19
            refine lv_iconst (v := 1) hx hb dX4_suitable_89 (by decide) ?_
            refine lv_goto (tgt := 94) hx hb dX4_suitable_90 (by decide) ?_
            exact L94 (1 : Int32) x64_1 x64_2 x64_3 x64_4 t64_0 μ_16 _ _ _ hf hP hD hS (lv_sub hl [1, 2, 3, 4, 5, 0] rfl)
      intro x18_1 x18_2 x18_3 x18_4 μ18 H locs ls hf hP hD hS hl
      rw [fX4_suitable_L18] at hf
      refine lv_iload hx hb dX4_suitable_18 (lv_at hl 4 rfl) ?_
      refine lv_aload_n hx hb dX4_suitable_20 rfl (lv_at hl 0 rfl) ?_
      refine m_get S hK hP 0 (by decide) q1600 rfl dX4_suitable_21 ?_
      refine lv_sipush (v := 205) hx hb dX4_suitable_24 (by decide) ?_
      obtain ⟨g_5, hf⟩ := ga_some hf
      refine m_ild S hK hP 0 1 rfl g_5 dX4_suitable_27 ?_
      clear g_5
      refine lv_icmp_ge (tgt := 123) hx hb dX4_suitable_28 (by decide) (fun c_6 => ?_) (fun c_6 => ?_)
      · replace hf := it_t hf c_6
        clear c_6
        refine lv_iload_n hx hb dX4_suitable_123 rfl (lv_at hl 2 rfl) ?_
        exact hret _ _ _ _ _ _ hf dX4_suitable_124 hP hD hS
      · replace hf := it_f hf c_6
        clear c_6
        refine lv_aload_n hx hb dX4_suitable_31 rfl (lv_at hl 0 rfl) ?_
        refine m_get S hK hP 0 (by decide) q1600 rfl dX4_suitable_32 ?_
        refine lv_sipush (v := 206) hx hb dX4_suitable_35 (by decide) ?_
        refine lv_iload hx hb dX4_suitable_38 (lv_at hl 4 rfl) ?_
        refine lv_iadd hx hb dX4_suitable_40 ?_
        obtain ⟨g_7, hf⟩ := ga_some hf
        refine m_ild S hK hP 0 1 rfl g_7 dX4_suitable_41 ?_
        clear g_7
        refine lv_aload_n hx hb dX4_suitable_42 rfl (lv_at hl 0 rfl) ?_
        refine m_get S hK hP 0 (by decide) q1600 rfl dX4_suitable_43 ?_
        refine lv_iconst (v := 0) hx hb dX4_suitable_46 (by decide) ?_
        obtain ⟨g_8, hf⟩ := ga_some hf
        refine m_ild S hK hP 0 1 rfl g_8 dX4_suitable_47 ?_
        clear g_8
        refine lv_isub hx hb dX4_suitable_48 ?_
        refine lv_topi (fun v_9 e_ => ?_)
        replace hf := nm_some hf v_9 e_
        clear e_
        refine lv_istore (lv' := [(5, .int v_9), (0, .ref o), (1, .int x18_1), (2, .int x18_2), (3, .int x18_3), (4, .int x18_4)]) hx hb dX4_suitable_49 hl (by decide) rfl (fun ls hl => ?_)
        refine lv_iload hx hb dX4_suitable_51 (lv_at hl 0 rfl) ?_
        refine lv_if_ge (tgt := 62) hx hb dX4_suitable_53 (by decide) (fun c_10 => ?_) (fun c_10 => ?_)
        · replace hf := it_t hf c_10
          clear c_10
          refine lv_iload hx hb dX4_suitable_62 (lv_at hl 0 rfl) ?_
          exact L64 v_9 x18_1 x18_2 x18_3 x18_4 μ18 _ _ _ hf hP hD hS (lv_sub hl [1, 2, 3, 4, 5] rfl)
        · replace hf := it_f hf c_10
          clear c_10
          refine lv_iload hx hb dX4_suitable_56 (lv_at hl 0 rfl) ?_
          refine lv_ineg hx hb dX4_suitable_58 ?_
          refine lv_goto (tgt := 64) hx hb dX4_suitable_59 (by decide) ?_
          exact L64 (-v_9) x18_1 x18_2 x18_3 x18_4 μ18 _ _ _ hf hP hD hS (lv_sub hl [1, 2, 3, 4, 5] rfl)
  unfold fX4_suitable at hf
  refine lv_aload_n hx hb dX4_suitable_0 rfl (lv_at hl 0 rfl) ?_
  refine lv_aload_n hx hb dX4_suitable_1 rfl (lv_at hl 0 rfl) ?_
  refine m_get S hK hP 0 (by decide) q1600 rfl dX4_suitable_2 ?_
  refine lv_iconst (v := 0) hx hb dX4_suitable_5 (by decide) ?_
  obtain ⟨g_1, hf⟩ := ga_some hf
  refine m_ild S hK hP 0 1 rfl g_1 dX4_suitable_6 ?_
  clear g_1
  obtain ⟨r_4, μ_2, h_3, hf⟩ := b2_some hf
  refine ci_call S hK hP hD hZ hS hA (tX4_band l D d z o a K (μ.2.2 0 (0 : Int32).toNatClampNeg) μ _ _ h_3) (cwV 1 hts (lw_V q1910 q1912 qs72 q101 q1913) rfl rfl rfl (by decide +kernel) ⟨Nat.le_of_ble_eq_true rfl, Nat.le_of_ble_eq_true rfl⟩) (ci := 0) (q0 := 0) rfl rfl rfl hl.1 rfl (Nat.le_of_ble_eq_true rfl) ⟨Nat.le_of_ble_eq_true rfl, Nat.le_of_ble_eq_true rfl⟩ dX4_suitable_7 ?_
  clear hP hD hS
  intro H locs hP hD hS
  clear h_3
  refine lv_istore_n (lv' := [(1, .int r_4), (0, .ref o)]) hx hb dX4_suitable_10 rfl hl (by decide) rfl (fun ls hl => ?_)
  refine lv_iconst (v := -1) hx hb dX4_suitable_11 (by decide) ?_
  refine lv_istore_n (lv' := [(2, .int (-1 : Int32)), (1, .int r_4), (0, .ref o)]) hx hb dX4_suitable_12 rfl hl (by decide) rfl (fun ls hl => ?_)
  refine lv_iconst (v := 0) hx hb dX4_suitable_13 (by decide) ?_
  refine lv_istore_n (lv' := [(3, .int (0 : Int32)), (2, .int (-1 : Int32)), (1, .int r_4), (0, .ref o)]) hx hb dX4_suitable_14 rfl hl (by decide) rfl (fun ls hl => ?_)
  refine lv_iconst (v := 0) hx hb dX4_suitable_15 (by decide) ?_
  refine lv_istore (lv' := [(4, .int (0 : Int32)), (3, .int (0 : Int32)), (2, .int (-1 : Int32)), (1, .int r_4), (0, .ref o)]) hx hb dX4_suitable_16 hl (by decide) rfl (fun ls hl => ?_)
  exact L18 K r_4 (-1 : Int32) (0 : Int32) (0 : Int32) μ_2 _ _ _ hf hP hD hS (lv_sub hl [4, 3, 2, 1, 0] rfl)
def fX4_moveEntry (K : Nat) (p0 : Int32) (p1 : Int32) (μ : MS) : Option MS :=
  ga (ix ((206 : Int32) + p0) 254) <|
  ga (ix ((206 : Int32) + p1) 254) <|
  nm (sF μ 0 (upd (μ.2.2 0) ((206 : Int32) + p1).toNatClampNeg (μ.2.2 0 ((206 : Int32) + p0).toNatClampNeg))) fun μ_3 =>
  ga (ix ((222 : Int32) + p0) 254) <|
  ga (ix ((222 : Int32) + p1) 254) <|
  nm (sF μ_3 0 (upd (μ_3.2.2 0) ((222 : Int32) + p1).toNatClampNeg (μ_3.2.2 0 ((222 : Int32) + p0).toNatClampNeg))) fun μ_6 =>
  ga (ix ((238 : Int32) + p0) 254) <|
  ga (ix ((238 : Int32) + p1) 254) <|
  nm (sF μ_6 0 (upd (μ_6.2.2 0) ((238 : Int32) + p1).toNatClampNeg (μ_6.2.2 0 ((238 : Int32) + p0).toNatClampNeg))) fun μ_9 =>
  some μ_9
set_option maxHeartbeats 4000000 in
set_option maxRecDepth 100000 in
theorem tX4_moveEntry (l : Launch) (D : va_G) (d : Nat → ClassId) (z : ZT) (o : Nat) (a : Nat → Nat) (K : Nat) (p0 : Int32) (p1 : Int32) (μ : MS) (μ' : MS) (hf : fX4_moveEntry K p0 p1 μ = some μ') : CV l yX4_moveEntry (ws_ yX4_moveEntry cX4_moveEntry 3 (Option.none : Option Jvm.ClassFile.FieldType)) (rmc 0 0 0 0) D d z [.ref o, .int p0, .int p1] (MP d o a μ) (MP d o a μ') := by
  refine mV_of rfl (by decide) (Nat.le_of_ble_eq_true rfl) ?_
  intro p e s m args below meth c A Q ls S hK hP hD hZ hS hA hl hret
  have hx := S.1
  have hb := S.2.1
  have hts := S.2.2.2.2
  have hl : lv_has ls 3 [(0, .ref o), (1, .int p0), (2, .int p1)] := hl
  unfold fX4_moveEntry at hf
  refine lv_aload_n hx hb dX4_moveEntry_0 rfl (lv_at hl 0 rfl) ?_
  refine m_get S hK hP 0 (by decide) q1600 rfl dX4_moveEntry_1 ?_
  refine lv_sipush (v := 206) hx hb dX4_moveEntry_4 (by decide) ?_
  refine lv_iload_n hx hb dX4_moveEntry_7 rfl (lv_at hl 2 rfl) ?_
  refine lv_iadd hx hb dX4_moveEntry_8 ?_
  refine lv_aload_n hx hb dX4_moveEntry_9 rfl (lv_at hl 0 rfl) ?_
  refine m_get S hK hP 0 (by decide) q1600 rfl dX4_moveEntry_10 ?_
  refine lv_sipush (v := 206) hx hb dX4_moveEntry_13 (by decide) ?_
  refine lv_iload_n hx hb dX4_moveEntry_16 rfl (lv_at hl 1 rfl) ?_
  refine lv_iadd hx hb dX4_moveEntry_17 ?_
  obtain ⟨g_1, hf⟩ := ga_some hf
  refine m_ild S hK hP 0 1 rfl g_1 dX4_moveEntry_18 ?_
  clear g_1
  obtain ⟨g_2, hf⟩ := ga_some hf
  refine m_ist S hK hP hD hS 0 1 rfl g_2 rfl dX4_moveEntry_19 ?_
  clear hP hD hS
  intro μ_3 e_ H locs hP hD hS
  replace hf := nm_some hf μ_3 e_
  clear e_
  clear g_2
  refine lv_aload_n hx hb dX4_moveEntry_20 rfl (lv_at hl 0 rfl) ?_
  refine m_get S hK hP 0 (by decide) q1600 rfl dX4_moveEntry_21 ?_
  refine lv_sipush (v := 222) hx hb dX4_moveEntry_24 (by decide) ?_
  refine lv_iload_n hx hb dX4_moveEntry_27 rfl (lv_at hl 2 rfl) ?_
  refine lv_iadd hx hb dX4_moveEntry_28 ?_
  refine lv_aload_n hx hb dX4_moveEntry_29 rfl (lv_at hl 0 rfl) ?_
  refine m_get S hK hP 0 (by decide) q1600 rfl dX4_moveEntry_30 ?_
  refine lv_sipush (v := 222) hx hb dX4_moveEntry_33 (by decide) ?_
  refine lv_iload_n hx hb dX4_moveEntry_36 rfl (lv_at hl 1 rfl) ?_
  refine lv_iadd hx hb dX4_moveEntry_37 ?_
  obtain ⟨g_4, hf⟩ := ga_some hf
  refine m_ild S hK hP 0 1 rfl g_4 dX4_moveEntry_38 ?_
  clear g_4
  obtain ⟨g_5, hf⟩ := ga_some hf
  refine m_ist S hK hP hD hS 0 1 rfl g_5 rfl dX4_moveEntry_39 ?_
  clear hP hD hS
  intro μ_6 e_ H locs hP hD hS
  replace hf := nm_some hf μ_6 e_
  clear e_
  clear g_5
  refine lv_aload_n hx hb dX4_moveEntry_40 rfl (lv_at hl 0 rfl) ?_
  refine m_get S hK hP 0 (by decide) q1600 rfl dX4_moveEntry_41 ?_
  refine lv_sipush (v := 238) hx hb dX4_moveEntry_44 (by decide) ?_
  refine lv_iload_n hx hb dX4_moveEntry_47 rfl (lv_at hl 2 rfl) ?_
  refine lv_iadd hx hb dX4_moveEntry_48 ?_
  refine lv_aload_n hx hb dX4_moveEntry_49 rfl (lv_at hl 0 rfl) ?_
  refine m_get S hK hP 0 (by decide) q1600 rfl dX4_moveEntry_50 ?_
  refine lv_sipush (v := 238) hx hb dX4_moveEntry_53 (by decide) ?_
  refine lv_iload_n hx hb dX4_moveEntry_56 rfl (lv_at hl 1 rfl) ?_
  refine lv_iadd hx hb dX4_moveEntry_57 ?_
  obtain ⟨g_7, hf⟩ := ga_some hf
  refine m_ild S hK hP 0 1 rfl g_7 dX4_moveEntry_58 ?_
  clear g_7
  obtain ⟨g_8, hf⟩ := ga_some hf
  refine m_ist S hK hP hD hS 0 1 rfl g_8 rfl dX4_moveEntry_59 ?_
  clear hP hD hS
  intro μ_9 e_ H locs hP hD hS
  replace hf := nm_some hf μ_9 e_
  clear e_
  clear g_8
  exact hret _ _ _ _ _ hf dX4_moveEntry_60 hP hD hS
def fX4_store_L153 (K : Nat) (x153_1 : Int32) (μ153 : MS) : Option (Int32 × MS) :=
  ga (ix (0 : Int32) 254) <|
  ga (ix ((206 : Int32) + x153_1) 254) <|
  nm (sF μ153 0 (upd (μ153.2.2 0) ((206 : Int32) + x153_1).toNatClampNeg (μ153.2.2 0 (0 : Int32).toNatClampNeg))) fun μ_12 =>
  ga (ix (1 : Int32) 254) <|
  ga (ix ((222 : Int32) + x153_1) 254) <|
  nm (sF μ_12 0 (upd (μ_12.2.2 0) ((222 : Int32) + x153_1).toNatClampNeg (μ_12.2.2 0 (1 : Int32).toNatClampNeg))) fun μ_15 =>
  b2 (fX4_present K μ_15) fun r_18 μ_16 =>
  ga (ix ((238 : Int32) + x153_1) 254) <|
  nm (sF μ_16 0 (upd (μ_16.2.2 0) ((238 : Int32) + x153_1).toNatClampNeg r_18)) fun μ_20 =>
  some (x153_1, μ_20)
def fX4_store_L122 (K : Nat) : Nat → Int32 → Int32 → MS → Option (Int32 × MS)
  | 0, _, _, _ => none
  | n + 1, x122_1, x122_3, μ122 =>
    if x122_3 ≤ x122_1 then
      ga (ix (205 : Int32) 254) <|
      ga (ix (205 : Int32) 254) <|
      nm (sF μ122 0 (upd (μ122.2.2 0) (205 : Int32).toNatClampNeg ((μ122.2.2 0 (205 : Int32).toNatClampNeg) + (1 : Int32)))) fun μ_26 =>
      fX4_store_L153 K x122_1 μ_26
    else
      b1 (fX4_moveEntry K (x122_3 - (1 : Int32)) x122_3 μ122) fun μ_27 =>
      fX4_store_L122 K n x122_1 (x122_3 + (-1 : Int32)) μ_27
def fX4_store_L105 (K : Nat) (x105_1 : Int32) (x105_2 : Int32) (μ105 : MS) : Option (Int32 × MS) :=
  b1 (fX4_remember K μ105) fun μ_7 =>
  if x105_2 = 0 then
    ga (ix (205 : Int32) 254) <|
    nm (μ_7.2.2 0 (205 : Int32).toNatClampNeg) fun v_22 =>
    fX4_store_L122 K K x105_1 v_22 μ_7
  else
    fX4_store_L153 K x105_1 μ_7
def fX4_store_L84 (K : Nat) (t84_0 : Int32) (x84_1 : Int32) (μ84 : MS) : Option (Int32 × MS) :=
  if t84_0 = 0 then
    ga (ix (205 : Int32) 254) <|
    if (μ84.2.2 0 (205 : Int32).toNatClampNeg) = (16 : Int32) then
      some ((-2 : Int32), μ84)
    else
      fX4_store_L105 K x84_1 t84_0 μ84
  else
    fX4_store_L105 K x84_1 t84_0 μ84
def fX4_store_L83 (K : Nat) (x83_1 : Int32) (μ83 : MS) : Option (Int32 × MS) :=
  fX4_store_L84 K (0 : Int32) x83_1 μ83
def fX4_store_L48 (K : Nat) (x48_1 : Int32) (μ48 : MS) : Option (Int32 × MS) :=
  ga (ix (205 : Int32) 254) <|
  if (μ48.2.2 0 (205 : Int32).toNatClampNeg) ≤ x48_1 then
    fX4_store_L83 K x48_1 μ48
  else
    ga (ix ((206 : Int32) + x48_1) 254) <|
    ga (ix (0 : Int32) 254) <|
    if (μ48.2.2 0 ((206 : Int32) + x48_1).toNatClampNeg) = (μ48.2.2 0 (0 : Int32).toNatClampNeg) then
      fX4_store_L84 K (1 : Int32) x48_1 μ48
    else
      fX4_store_L83 K x48_1 μ48
def fX4_store_L11 (K : Nat) : Nat → Int32 → MS → Option (Int32 × MS)
  | 0, _, _ => none
  | n + 1, x11_1, μ11 =>
    ga (ix (205 : Int32) 254) <|
    if (μ11.2.2 0 (205 : Int32).toNatClampNeg) ≤ x11_1 then
      fX4_store_L48 K x11_1 μ11
    else
      ga (ix ((206 : Int32) + x11_1) 254) <|
      ga (ix (0 : Int32) 254) <|
      if (μ11.2.2 0 (0 : Int32).toNatClampNeg) ≤ (μ11.2.2 0 ((206 : Int32) + x11_1).toNatClampNeg) then
        fX4_store_L48 K x11_1 μ11
      else
        fX4_store_L11 K n (x11_1 + (1 : Int32)) μ11
def fX4_store (K : Nat) (μ : MS) : Option (Int32 × MS) :=
  if (μ.1 3) = 0 then
    some ((-1 : Int32), μ)
  else
    fX4_store_L11 K K (0 : Int32) μ
set_option maxHeartbeats 4000000 in
set_option maxRecDepth 100000 in
theorem tX4_store (l : Launch) (D : va_G) (d : Nat → ClassId) (z : ZT) (o : Nat) (a : Nat → Nat) (K : Nat) (μ : MS) (r : Int32) (μ' : MS) (hf : fX4_store K μ = some (r, μ')) : CI l yX4_store (ws_ yX4_store cX4_store 4 (Option.some Jvm.ClassFile.FieldType.int)) (rmc 5 0 0 123) D d z [.ref o] (MP d o a μ) r (MP d o a μ') := by
  refine mI_of rfl (by decide) (Nat.le_of_ble_eq_true rfl) ?_
  intro p e s m args below meth c A Q ls S hK hP hD hZ hS hA hl hret
  have hx := S.1
  have hb := S.2.1
  have hts := S.2.2.2.2
  have hl : lv_has ls 4 [(0, .ref o)] := hl
  have L153 : ∀ (x153_1 : Int32) (μ153 : MS) (H : Heap) (locs : List Loc) (ls : Array Slot), fX4_store_L153 K x153_1 μ153 = some (r, μ') → va_P D CL (MP d o a μ153) H → va_D A (MP d o a μ153) → va_S A s.heap H locs → lv_has ls 4 [(0, .ref o), (1, .int x153_1)] → W p l e (rmc 5 0 0 123) s m args below meth c H locs 0 0 Q (F0 m 153 ls []) := by
    intro x153_1 μ153 H locs ls hf hP hD hS hl
    unfold fX4_store_L153 at hf
    refine lv_aload_n hx hb dX4_store_153 rfl (lv_at hl 0 rfl) ?_
    refine m_get S hK hP 0 (by decide) q1600 rfl dX4_store_154 ?_
    refine lv_sipush (v := 206) hx hb dX4_store_157 (by decide) ?_
    refine lv_iload_n hx hb dX4_store_160 rfl (lv_at hl 1 rfl) ?_
    refine lv_iadd hx hb dX4_store_161 ?_
    refine lv_aload_n hx hb dX4_store_162 rfl (lv_at hl 0 rfl) ?_
    refine m_get S hK hP 0 (by decide) q1600 rfl dX4_store_163 ?_
    refine lv_iconst (v := 0) hx hb dX4_store_166 (by decide) ?_
    obtain ⟨g_10, hf⟩ := ga_some hf
    refine m_ild S hK hP 0 1 rfl g_10 dX4_store_167 ?_
    clear g_10
    obtain ⟨g_11, hf⟩ := ga_some hf
    refine m_ist S hK hP hD hS 0 1 rfl g_11 rfl dX4_store_168 ?_
    clear hP hD hS
    intro μ_12 e_ H locs hP hD hS
    replace hf := nm_some hf μ_12 e_
    clear e_
    clear g_11
    refine lv_aload_n hx hb dX4_store_169 rfl (lv_at hl 0 rfl) ?_
    refine m_get S hK hP 0 (by decide) q1600 rfl dX4_store_170 ?_
    refine lv_sipush (v := 222) hx hb dX4_store_173 (by decide) ?_
    refine lv_iload_n hx hb dX4_store_176 rfl (lv_at hl 1 rfl) ?_
    refine lv_iadd hx hb dX4_store_177 ?_
    refine lv_aload_n hx hb dX4_store_178 rfl (lv_at hl 0 rfl) ?_
    refine m_get S hK hP 0 (by decide) q1600 rfl dX4_store_179 ?_
    refine lv_iconst (v := 1) hx hb dX4_store_182 (by decide) ?_
    obtain ⟨g_13, hf⟩ := ga_some hf
    refine m_ild S hK hP 0 1 rfl g_13 dX4_store_183 ?_
    clear g_13
    obtain ⟨g_14, hf⟩ := ga_some hf
    refine m_ist S hK hP hD hS 0 1 rfl g_14 rfl dX4_store_184 ?_
    clear hP hD hS
    intro μ_15 e_ H locs hP hD hS
    replace hf := nm_some hf μ_15 e_
    clear e_
    clear g_14
    refine lv_aload_n hx hb dX4_store_185 rfl (lv_at hl 0 rfl) ?_
    refine m_get S hK hP 0 (by decide) q1600 rfl dX4_store_186 ?_
    refine lv_sipush (v := 238) hx hb dX4_store_189 (by decide) ?_
    refine lv_iload_n hx hb dX4_store_192 rfl (lv_at hl 1 rfl) ?_
    refine lv_iadd hx hb dX4_store_193 ?_
    refine lv_aload_n hx hb dX4_store_194 rfl (lv_at hl 0 rfl) ?_
    obtain ⟨r_18, μ_16, h_17, hf⟩ := b2_some hf
    refine ci_call S hK hP hD hZ hS hA (tX4_present l D d z o a K μ_15 _ _ h_17) (cwV 0 hts (lw_V q2003 q2005 qs78 q101 q2006) rfl rfl rfl (by decide +kernel) ⟨Nat.le_of_ble_eq_true rfl, Nat.le_of_ble_eq_true rfl⟩) (ci := 0) (q0 := 0) rfl rfl rfl hl.1 rfl (Nat.le_of_ble_eq_true rfl) ⟨Nat.le_of_ble_eq_true rfl, Nat.le_of_ble_eq_true rfl⟩ dX4_store_195 ?_
    clear hP hD hS
    intro H locs hP hD hS
    clear h_17
    obtain ⟨g_19, hf⟩ := ga_some hf
    refine m_ist S hK hP hD hS 0 1 rfl g_19 rfl dX4_store_198 ?_
    clear hP hD hS
    intro μ_20 e_ H locs hP hD hS
    replace hf := nm_some hf μ_20 e_
    clear e_
    clear g_19
    refine lv_iload_n hx hb dX4_store_199 rfl (lv_at hl 1 rfl) ?_
    exact hret _ _ _ _ _ _ hf dX4_store_200 hP hD hS
  have L122 : ∀ (n : Nat) (x122_1 : Int32) (x122_3 : Int32) (μ122 : MS) (H : Heap) (locs : List Loc) (ls : Array Slot), fX4_store_L122 K n x122_1 x122_3 μ122 = some (r, μ') → va_P D CL (MP d o a μ122) H → va_D A (MP d o a μ122) → va_S A s.heap H locs → lv_has ls 4 [(0, .ref o), (1, .int x122_1), (3, .int x122_3)] → W p l e (rmc 5 0 0 123) s m args below meth c H locs 0 0 Q (F0 m 122 ls []) := by
    intro n
    induction n with
    | zero =>
      intro x122_1 x122_3 μ122 H locs ls hf hP hD hS hl
      rw [fX4_store_L122] at hf
      cases hf
    | succ n ih =>
      intro x122_1 x122_3 μ122 H locs ls hf hP hD hS hl
      rw [fX4_store_L122] at hf
      refine lv_iload_n hx hb dX4_store_122 rfl (lv_at hl 2 rfl) ?_
      refine lv_iload_n hx hb dX4_store_123 rfl (lv_at hl 1 rfl) ?_
      refine lv_icmp_le (tgt := 141) hx hb dX4_store_124 (by decide) (fun c_23 => ?_) (fun c_23 => ?_)
      · replace hf := it_t hf c_23
        clear c_23
        refine lv_aload_n hx hb dX4_store_141 rfl (lv_at hl 0 rfl) ?_
        refine m_get S hK hP 0 (by decide) q1600 rfl dX4_store_142 ?_
        refine lv_sipush (v := 205) hx hb dX4_store_145 (by decide) ?_
        refine lv_dup2_11 hx hb dX4_store_148 rfl rfl ?_
        obtain ⟨g_24, hf⟩ := ga_some hf
        refine m_ild S hK hP 0 1 rfl g_24 dX4_store_149 ?_
        clear g_24
        refine lv_iconst (v := 1) hx hb dX4_store_150 (by decide) ?_
        refine lv_iadd hx hb dX4_store_151 ?_
        obtain ⟨g_25, hf⟩ := ga_some hf
        refine m_ist S hK hP hD hS 0 1 rfl g_25 rfl dX4_store_152 ?_
        clear hP hD hS
        intro μ_26 e_ H locs hP hD hS
        replace hf := nm_some hf μ_26 e_
        clear e_
        clear g_25
        exact L153 x122_1 μ_26 _ _ _ hf hP hD hS (lv_sub hl [0, 1] rfl)
      · replace hf := it_f hf c_23
        clear c_23
        refine lv_aload_n hx hb dX4_store_127 rfl (lv_at hl 0 rfl) ?_
        refine lv_iload_n hx hb dX4_store_128 rfl (lv_at hl 2 rfl) ?_
        refine lv_iconst (v := 1) hx hb dX4_store_129 (by decide) ?_
        refine lv_isub hx hb dX4_store_130 ?_
        refine lv_iload_n hx hb dX4_store_131 rfl (lv_at hl 2 rfl) ?_
        obtain ⟨μ_27, h_28, hf⟩ := b1_some hf
        refine cv_call S hK hP hD hZ hS hA (tX4_moveEntry l D d z o a K (x122_3 - (1 : Int32)) x122_3 μ122 _ h_28) (cwV 2 hts (lw_V q2165 q2167 qs91 q101 q2168) rfl rfl rfl (by decide +kernel) ⟨Nat.le_of_ble_eq_true rfl, Nat.le_of_ble_eq_true rfl⟩) (ci := 0) (q0 := 0) rfl rfl rfl hl.1 rfl (Nat.le_of_ble_eq_true rfl) ⟨Nat.le_of_ble_eq_true rfl, Nat.le_of_ble_eq_true rfl⟩ dX4_store_132 ?_
        clear hP hD hS
        intro H locs hP hD hS
        clear h_28
        refine lv_iinc (v := x122_3 + (-1 : Int32)) (lv' := [(3, .int (x122_3 + (-1 : Int32))), (0, .ref o), (1, .int x122_1)]) hx hb dX4_store_135 hl (k := 2) rfl rfl (by decide) rfl (fun ls hl => ?_)
        refine lv_goto (tgt := 122) hx hb dX4_store_138 (by decide) ?_
        exact ih x122_1 (x122_3 + (-1 : Int32)) μ_27 _ _ _ hf hP hD hS (lv_sub hl [1, 2, 0] rfl)
  have L105 : ∀ (x105_1 : Int32) (x105_2 : Int32) (μ105 : MS) (H : Heap) (locs : List Loc) (ls : Array Slot), fX4_store_L105 K x105_1 x105_2 μ105 = some (r, μ') → va_P D CL (MP d o a μ105) H → va_D A (MP d o a μ105) → va_S A s.heap H locs → lv_has ls 4 [(0, .ref o), (1, .int x105_1), (2, .int x105_2)] → W p l e (rmc 5 0 0 123) s m args below meth c H locs 0 0 Q (F0 m 105 ls []) := by
    intro x105_1 x105_2 μ105 H locs ls hf hP hD hS hl
    unfold fX4_store_L105 at hf
    refine lv_aload_n hx hb dX4_store_105 rfl (lv_at hl 0 rfl) ?_
    obtain ⟨μ_7, h_8, hf⟩ := b1_some hf
    refine cv_call S hK hP hD hZ hS hA (tX4_remember l D d z o a K μ105 _ h_8) (cwV 0 hts (lw_V q1922 q1924 qs73 q101 q1925) rfl rfl rfl (by decide +kernel) ⟨Nat.le_of_ble_eq_true rfl, Nat.le_of_ble_eq_true rfl⟩) (ci := 0) (q0 := 0) rfl rfl rfl hl.1 rfl (Nat.le_of_ble_eq_true rfl) ⟨Nat.le_of_ble_eq_true rfl, Nat.le_of_ble_eq_true rfl⟩ dX4_store_106 ?_
    clear hP hD hS
    intro H locs hP hD hS
    clear h_8
    refine lv_iload_n hx hb dX4_store_109 rfl (lv_at hl 2 rfl) ?_
    refine lv_if_ne (tgt := 153) hx hb dX4_store_110 (by decide) (fun c_9 => ?_) (fun c_9 => ?_)
    · replace hf := it_f hf c_9
      clear c_9
      exact L153 x105_1 μ_7 _ _ _ hf hP hD hS (lv_sub hl [0, 1] rfl)
    · replace hf := it_t hf c_9
      clear c_9
      refine lv_aload_n hx hb dX4_store_113 rfl (lv_at hl 0 rfl) ?_
      refine m_get S hK hP 0 (by decide) q1600 rfl dX4_store_114 ?_
      refine lv_sipush (v := 205) hx hb dX4_store_117 (by decide) ?_
      obtain ⟨g_21, hf⟩ := ga_some hf
      refine m_ild S hK hP 0 1 rfl g_21 dX4_store_120 ?_
      clear g_21
      refine lv_topi (fun v_22 e_ => ?_)
      replace hf := nm_some hf v_22 e_
      clear e_
      refine lv_istore_n (lv' := [(3, .int v_22), (0, .ref o), (1, .int x105_1), (2, .int x105_2)]) hx hb dX4_store_121 rfl hl (by decide) rfl (fun ls hl => ?_)
      exact L122 K x105_1 v_22 μ_7 _ _ _ hf hP hD hS (lv_sub hl [1, 2, 0] rfl)
  have L84 : ∀ (t84_0 : Int32) (x84_1 : Int32) (μ84 : MS) (H : Heap) (locs : List Loc) (ls : Array Slot), fX4_store_L84 K t84_0 x84_1 μ84 = some (r, μ') → va_P D CL (MP d o a μ84) H → va_D A (MP d o a μ84) → va_S A s.heap H locs → lv_has ls 4 [(0, .ref o), (1, .int x84_1)] → W p l e (rmc 5 0 0 123) s m args below meth c H locs 0 0 Q (F0 m 84 ls [.int t84_0]) := by
    intro t84_0 x84_1 μ84 H locs ls hf hP hD hS hl
    unfold fX4_store_L84 at hf
    refine lv_istore_n (lv' := [(2, .int t84_0), (0, .ref o), (1, .int x84_1)]) hx hb dX4_store_84 rfl hl (by decide) rfl (fun ls hl => ?_)
    refine lv_iload_n hx hb dX4_store_85 rfl (lv_at hl 0 rfl) ?_
    refine lv_if_ne (tgt := 105) hx hb dX4_store_86 (by decide) (fun c_6 => ?_) (fun c_6 => ?_)
    · replace hf := it_f hf c_6
      clear c_6
      exact L105 x84_1 t84_0 μ84 _ _ _ hf hP hD hS (lv_sub hl [1, 2, 0] rfl)
    · replace hf := it_t hf c_6
      clear c_6
      refine lv_aload_n hx hb dX4_store_89 rfl (lv_at hl 1 rfl) ?_
      refine m_get S hK hP 0 (by decide) q1600 rfl dX4_store_90 ?_
      refine lv_sipush (v := 205) hx hb dX4_store_93 (by decide) ?_
      obtain ⟨g_29, hf⟩ := ga_some hf
      refine m_ild S hK hP 0 1 rfl g_29 dX4_store_96 ?_
      clear g_29
      refine lv_bipush (v := 16) hx hb dX4_store_97 (by decide) ?_
      refine lv_icmp_ne (tgt := 105) hx hb dX4_store_99 (by decide) (fun c_30 => ?_) (fun c_30 => ?_)
      · replace hf := it_f hf c_30
        clear c_30
        exact L105 x84_1 t84_0 μ84 _ _ _ hf hP hD hS (lv_sub hl [1, 2, 0] rfl)
      · replace hf := it_t hf c_30
        clear c_30
        refine lv_bipush (v := -2) hx hb dX4_store_102 (by decide) ?_
        exact hret _ _ _ _ _ _ hf dX4_store_104 hP hD hS
  have L83 : ∀ (x83_1 : Int32) (μ83 : MS) (H : Heap) (locs : List Loc) (ls : Array Slot), fX4_store_L83 K x83_1 μ83 = some (r, μ') → va_P D CL (MP d o a μ83) H → va_D A (MP d o a μ83) → va_S A s.heap H locs → lv_has ls 4 [(0, .ref o), (1, .int x83_1)] → W p l e (rmc 5 0 0 123) s m args below meth c H locs 0 0 Q (F0 m 83 ls []) := by
    intro x83_1 μ83 H locs ls hf hP hD hS hl
    unfold fX4_store_L83 at hf
    refine lv_iconst (v := 0) hx hb dX4_store_83 (by decide) ?_
    exact L84 (0 : Int32) x83_1 μ83 _ _ _ hf hP hD hS (lv_sub hl [0, 1] rfl)
  have L48 : ∀ (x48_1 : Int32) (μ48 : MS) (H : Heap) (locs : List Loc) (ls : Array Slot), fX4_store_L48 K x48_1 μ48 = some (r, μ') → va_P D CL (MP d o a μ48) H → va_D A (MP d o a μ48) → va_S A s.heap H locs → lv_has ls 4 [(0, .ref o), (1, .int x48_1)] → W p l e (rmc 5 0 0 123) s m args below meth c H locs 0 0 Q (F0 m 48 ls []) := by
    intro x48_1 μ48 H locs ls hf hP hD hS hl
    unfold fX4_store_L48 at hf
    refine lv_iload_n hx hb dX4_store_48 rfl (lv_at hl 1 rfl) ?_
    refine lv_aload_n hx hb dX4_store_49 rfl (lv_at hl 0 rfl) ?_
    refine m_get S hK hP 0 (by decide) q1600 rfl dX4_store_50 ?_
    refine lv_sipush (v := 205) hx hb dX4_store_53 (by decide) ?_
    obtain ⟨g_4, hf⟩ := ga_some hf
    refine m_ild S hK hP 0 1 rfl g_4 dX4_store_56 ?_
    clear g_4
    refine lv_icmp_ge (tgt := 83) hx hb dX4_store_57 (by decide) (fun c_5 => ?_) (fun c_5 => ?_)
    · replace hf := it_t hf c_5
      clear c_5
      exact L83 x48_1 μ48 _ _ _ hf hP hD hS (lv_sub hl [0, 1] rfl)
    · replace hf := it_f hf c_5
      clear c_5
      refine lv_aload_n hx hb dX4_store_60 rfl (lv_at hl 0 rfl) ?_
      refine m_get S hK hP 0 (by decide) q1600 rfl dX4_store_61 ?_
      refine lv_sipush (v := 206) hx hb dX4_store_64 (by decide) ?_
      refine lv_iload_n hx hb dX4_store_67 rfl (lv_at hl 1 rfl) ?_
      refine lv_iadd hx hb dX4_store_68 ?_
      obtain ⟨g_31, hf⟩ := ga_some hf
      refine m_ild S hK hP 0 1 rfl g_31 dX4_store_69 ?_
      clear g_31
      refine lv_aload_n hx hb dX4_store_70 rfl (lv_at hl 0 rfl) ?_
      refine m_get S hK hP 0 (by decide) q1600 rfl dX4_store_71 ?_
      refine lv_iconst (v := 0) hx hb dX4_store_74 (by decide) ?_
      obtain ⟨g_32, hf⟩ := ga_some hf
      refine m_ild S hK hP 0 1 rfl g_32 dX4_store_75 ?_
      clear g_32
      refine lv_icmp_ne (tgt := 83) hx hb dX4_store_76 (by decide) (fun c_33 => ?_) (fun c_33 => ?_)
      · replace hf := it_f hf c_33
        clear c_33
        exact L83 x48_1 μ48 _ _ _ hf hP hD hS (lv_sub hl [0, 1] rfl)
      · replace hf := it_t hf c_33
        clear c_33
        refine lv_iconst (v := 1) hx hb dX4_store_79 (by decide) ?_
        refine lv_goto (tgt := 84) hx hb dX4_store_80 (by decide) ?_
        exact L84 (1 : Int32) x48_1 μ48 _ _ _ hf hP hD hS (lv_sub hl [0, 1] rfl)
  have L11 : ∀ (n : Nat) (x11_1 : Int32) (μ11 : MS) (H : Heap) (locs : List Loc) (ls : Array Slot), fX4_store_L11 K n x11_1 μ11 = some (r, μ') → va_P D CL (MP d o a μ11) H → va_D A (MP d o a μ11) → va_S A s.heap H locs → lv_has ls 4 [(0, .ref o), (1, .int x11_1)] → W p l e (rmc 5 0 0 123) s m args below meth c H locs 0 0 Q (F0 m 11 ls []) := by
    intro n
    induction n with
    | zero =>
      intro x11_1 μ11 H locs ls hf hP hD hS hl
      rw [fX4_store_L11] at hf
      cases hf
    | succ n ih =>
      intro x11_1 μ11 H locs ls hf hP hD hS hl
      rw [fX4_store_L11] at hf
      refine lv_iload_n hx hb dX4_store_11 rfl (lv_at hl 1 rfl) ?_
      refine lv_aload_n hx hb dX4_store_12 rfl (lv_at hl 0 rfl) ?_
      refine m_get S hK hP 0 (by decide) q1600 rfl dX4_store_13 ?_
      refine lv_sipush (v := 205) hx hb dX4_store_16 (by decide) ?_
      obtain ⟨g_2, hf⟩ := ga_some hf
      refine m_ild S hK hP 0 1 rfl g_2 dX4_store_19 ?_
      clear g_2
      refine lv_icmp_ge (tgt := 48) hx hb dX4_store_20 (by decide) (fun c_3 => ?_) (fun c_3 => ?_)
      · replace hf := it_t hf c_3
        clear c_3
        exact L48 x11_1 μ11 _ _ _ hf hP hD hS (lv_sub hl [0, 1] rfl)
      · replace hf := it_f hf c_3
        clear c_3
        refine lv_aload_n hx hb dX4_store_23 rfl (lv_at hl 0 rfl) ?_
        refine m_get S hK hP 0 (by decide) q1600 rfl dX4_store_24 ?_
        refine lv_sipush (v := 206) hx hb dX4_store_27 (by decide) ?_
        refine lv_iload_n hx hb dX4_store_30 rfl (lv_at hl 1 rfl) ?_
        refine lv_iadd hx hb dX4_store_31 ?_
        obtain ⟨g_34, hf⟩ := ga_some hf
        refine m_ild S hK hP 0 1 rfl g_34 dX4_store_32 ?_
        clear g_34
        refine lv_aload_n hx hb dX4_store_33 rfl (lv_at hl 0 rfl) ?_
        refine m_get S hK hP 0 (by decide) q1600 rfl dX4_store_34 ?_
        refine lv_iconst (v := 0) hx hb dX4_store_37 (by decide) ?_
        obtain ⟨g_35, hf⟩ := ga_some hf
        refine m_ild S hK hP 0 1 rfl g_35 dX4_store_38 ?_
        clear g_35
        refine lv_icmp_ge (tgt := 48) hx hb dX4_store_39 (by decide) (fun c_36 => ?_) (fun c_36 => ?_)
        · replace hf := it_t hf c_36
          clear c_36
          exact L48 x11_1 μ11 _ _ _ hf hP hD hS (lv_sub hl [0, 1] rfl)
        · replace hf := it_f hf c_36
          clear c_36
          refine lv_iinc (v := x11_1 + (1 : Int32)) (lv' := [(1, .int (x11_1 + (1 : Int32))), (0, .ref o)]) hx hb dX4_store_42 hl (k := 1) rfl rfl (by decide) rfl (fun ls hl => ?_)
          refine lv_goto (tgt := 11) hx hb dX4_store_45 (by decide) ?_
          exact ih (x11_1 + (1 : Int32)) μ11 _ _ _ hf hP hD hS (lv_sub hl [1, 0] rfl)
  unfold fX4_store at hf
  refine lv_aload_n hx hb dX4_store_0 rfl (lv_at hl 0 rfl) ?_
  refine m_get S hK hP 3 (by decide) q1603 rfl dX4_store_1 ?_
  refine lv_if_ne (tgt := 9) hx hb dX4_store_4 (by decide) (fun c_1 => ?_) (fun c_1 => ?_)
  · replace hf := it_f hf c_1
    clear c_1
    refine lv_iconst (v := 0) hx hb dX4_store_9 (by decide) ?_
    refine lv_istore_n (lv' := [(1, .int (0 : Int32)), (0, .ref o)]) hx hb dX4_store_10 rfl hl (by decide) rfl (fun ls hl => ?_)
    exact L11 K (0 : Int32) μ _ _ _ hf hP hD hS (lv_sub hl [1, 0] rfl)
  · replace hf := it_t hf c_1
    clear c_1
    refine lv_iconst (v := -1) hx hb dX4_store_7 (by decide) ?_
    exact hret _ _ _ _ _ _ hf dX4_store_8 hP hD hS
def fX4_recall (K : Nat) (μ : MS) : Option (Int32 × MS) :=
  if (μ.1 3) = 0 then
    some ((-1 : Int32), μ)
  else
    b2 (fX4_suitable K μ) fun r_4 μ_2 =>
    nm (sI μ_2 44 (0 : Int32)) fun μ_5 =>
    if 0 ≤ r_4 then
      b1 (fX4_remember K μ_5) fun μ_7 =>
      ga (ix ((222 : Int32) + r_4) 254) <|
      b1 (fX4_change K (1 : Int32) (μ_7.2.2 0 ((222 : Int32) + r_4).toNatClampNeg) μ_7) fun μ_10 =>
      some (r_4, μ_10)
    else
      b1 (fX4_linkMissing K μ_5) fun μ_12 =>
      some ((-2 : Int32), μ_12)
set_option maxHeartbeats 4000000 in
set_option maxRecDepth 100000 in
theorem tX4_recall (l : Launch) (D : va_G) (d : Nat → ClassId) (z : ZT) (o : Nat) (a : Nat → Nat) (K : Nat) (μ : MS) (r : Int32) (μ' : MS) (hf : fX4_recall K μ = some (r, μ')) : CI l yX4_recall (ws_ yX4_recall cX4_recall 2 (Option.some Jvm.ClassFile.FieldType.int)) (rmc 3 0 0 73) D d z [.ref o] (MP d o a μ) r (MP d o a μ') := by
  refine mI_of rfl (by decide) (Nat.le_of_ble_eq_true rfl) ?_
  intro p e s m args below meth c A Q ls S hK hP hD hZ hS hA hl hret
  have hx := S.1
  have hb := S.2.1
  have hts := S.2.2.2.2
  have hl : lv_has ls 2 [(0, .ref o)] := hl
  unfold fX4_recall at hf
  refine lv_aload_n hx hb dX4_recall_0 rfl (lv_at hl 0 rfl) ?_
  refine m_get S hK hP 3 (by decide) q1603 rfl dX4_recall_1 ?_
  refine lv_if_ne (tgt := 9) hx hb dX4_recall_4 (by decide) (fun c_1 => ?_) (fun c_1 => ?_)
  · replace hf := it_f hf c_1
    clear c_1
    refine lv_aload_n hx hb dX4_recall_9 rfl (lv_at hl 0 rfl) ?_
    obtain ⟨r_4, μ_2, h_3, hf⟩ := b2_some hf
    refine ci_call S hK hP hD hZ hS hA (tX4_suitable l D d z o a K μ _ _ h_3) (cwV 0 hts (lw_V q2128 q2130 qs89 q101 q2131) rfl rfl rfl (by decide +kernel) ⟨Nat.le_of_ble_eq_true rfl, Nat.le_of_ble_eq_true rfl⟩) (ci := 0) (q0 := 0) rfl rfl rfl hl.1 rfl (Nat.le_of_ble_eq_true rfl) ⟨Nat.le_of_ble_eq_true rfl, Nat.le_of_ble_eq_true rfl⟩ dX4_recall_10 ?_
    clear hP hD hS
    intro H locs hP hD hS
    clear h_3
    refine lv_istore_n (lv' := [(1, .int r_4), (0, .ref o)]) hx hb dX4_recall_13 rfl hl (by decide) rfl (fun ls hl => ?_)
    refine lv_aload_n hx hb dX4_recall_14 rfl (lv_at hl 1 rfl) ?_
    refine lv_iconst (v := 0) hx hb dX4_recall_15 (by decide) ?_
    refine m_putI S hK hP hD hS 44 (by decide) q1644 rfl rfl rfl rfl rfl dX4_recall_16 ?_
    clear hP hD hS
    intro μ_5 e_ H locs hP hD hS
    replace hf := nm_some hf μ_5 e_
    clear e_
    refine lv_iload_n hx hb dX4_recall_19 rfl (lv_at hl 0 rfl) ?_
    refine lv_if_ge (tgt := 30) hx hb dX4_recall_20 (by decide) (fun c_6 => ?_) (fun c_6 => ?_)
    · replace hf := it_t hf c_6
      clear c_6
      refine lv_aload_n hx hb dX4_recall_30 rfl (lv_at hl 1 rfl) ?_
      obtain ⟨μ_7, h_8, hf⟩ := b1_some hf
      refine cv_call S hK hP hD hZ hS hA (tX4_remember l D d z o a K μ_5 _ h_8) (cwV 0 hts (lw_V q1922 q1924 qs73 q101 q1925) rfl rfl rfl (by decide +kernel) ⟨Nat.le_of_ble_eq_true rfl, Nat.le_of_ble_eq_true rfl⟩) (ci := 0) (q0 := 0) rfl rfl rfl hl.1 rfl (Nat.le_of_ble_eq_true rfl) ⟨Nat.le_of_ble_eq_true rfl, Nat.le_of_ble_eq_true rfl⟩ dX4_recall_31 ?_
      clear hP hD hS
      intro H locs hP hD hS
      clear h_8
      refine lv_aload_n hx hb dX4_recall_34 rfl (lv_at hl 1 rfl) ?_
      refine lv_iconst (v := 1) hx hb dX4_recall_35 (by decide) ?_
      refine lv_aload_n hx hb dX4_recall_36 rfl (lv_at hl 1 rfl) ?_
      refine m_get S hK hP 0 (by decide) q1600 rfl dX4_recall_37 ?_
      refine lv_sipush (v := 222) hx hb dX4_recall_40 (by decide) ?_
      refine lv_iload_n hx hb dX4_recall_43 rfl (lv_at hl 0 rfl) ?_
      refine lv_iadd hx hb dX4_recall_44 ?_
      obtain ⟨g_9, hf⟩ := ga_some hf
      refine m_ild S hK hP 0 1 rfl g_9 dX4_recall_45 ?_
      clear g_9
      obtain ⟨μ_10, h_11, hf⟩ := b1_some hf
      refine cv_call S hK hP hD hZ hS hA (tX4_change l D d z o a K (1 : Int32) (μ_7.2.2 0 ((222 : Int32) + r_4).toNatClampNeg) μ_7 _ h_11) (cwV 2 hts (lw_V q1926 q1928 qs74 q101 q1929) rfl rfl rfl (by decide +kernel) ⟨Nat.le_of_ble_eq_true rfl, Nat.le_of_ble_eq_true rfl⟩) (ci := 0) (q0 := 0) rfl rfl rfl hl.1 rfl (Nat.le_of_ble_eq_true rfl) ⟨Nat.le_of_ble_eq_true rfl, Nat.le_of_ble_eq_true rfl⟩ dX4_recall_46 ?_
      clear hP hD hS
      intro H locs hP hD hS
      clear h_11
      refine lv_iload_n hx hb dX4_recall_49 rfl (lv_at hl 0 rfl) ?_
      exact hret _ _ _ _ _ _ hf dX4_recall_50 hP hD hS
    · replace hf := it_f hf c_6
      clear c_6
      refine lv_aload_n hx hb dX4_recall_23 rfl (lv_at hl 1 rfl) ?_
      obtain ⟨μ_12, h_13, hf⟩ := b1_some hf
      refine cv_call S hK hP hD hZ hS hA (tX4_linkMissing l D d z o a K μ_5 _ h_13) (cwV 0 hts (lw_V q2132 q2134 qs90 q101 q2135) rfl rfl rfl (by decide +kernel) ⟨Nat.le_of_ble_eq_true rfl, Nat.le_of_ble_eq_true rfl⟩) (ci := 0) (q0 := 0) rfl rfl rfl hl.1 rfl (Nat.le_of_ble_eq_true rfl) ⟨Nat.le_of_ble_eq_true rfl, Nat.le_of_ble_eq_true rfl⟩ dX4_recall_24 ?_
      clear hP hD hS
      intro H locs hP hD hS
      clear h_13
      refine lv_bipush (v := -2) hx hb dX4_recall_27 (by decide) ?_
      exact hret _ _ _ _ _ _ hf dX4_recall_29 hP hD hS
  · replace hf := it_t hf c_1
    clear c_1
    refine lv_iconst (v := -1) hx hb dX4_recall_7 (by decide) ?_
    exact hret _ _ _ _ _ _ hf dX4_recall_8 hP hD hS
def fX4_forget_L18 (K : Nat) : Nat → Int32 → MS → Option (Int32 × MS)
  | 0, _, _ => none
  | n + 1, x18_2, μ18 =>
    ga (ix (205 : Int32) 254) <|
    if (μ18.2.2 0 (205 : Int32).toNatClampNeg) ≤ x18_2 then
      ga (ix (205 : Int32) 254) <|
      ga (ix (205 : Int32) 254) <|
      nm (sF μ18 0 (upd (μ18.2.2 0) (205 : Int32).toNatClampNeg ((μ18.2.2 0 (205 : Int32).toNatClampNeg) - (1 : Int32)))) fun μ_12 =>
      ga (ix (205 : Int32) 254) <|
      some (μ_12.2.2 0 (205 : Int32).toNatClampNeg, μ_12)
    else
      b1 (fX4_moveEntry K x18_2 (x18_2 - (1 : Int32)) μ18) fun μ_14 =>
      fX4_forget_L18 K n (x18_2 + (1 : Int32)) μ_14
def fX4_forget (K : Nat) (p0 : Int32) (μ : MS) : Option (Int32 × MS) :=
  b2 (fX4_isEntry K p0 μ) fun r_3 μ_1 =>
  if r_3 = true then
    b1 (fX4_remember K μ_1) fun μ_5 =>
    nm (p0 + (1 : Int32)) fun v_7 =>
    fX4_forget_L18 K K v_7 μ_5
  else
    some ((-1 : Int32), μ_1)
set_option maxHeartbeats 4000000 in
set_option maxRecDepth 100000 in
theorem tX4_forget (l : Launch) (D : va_G) (d : Nat → ClassId) (z : ZT) (o : Nat) (a : Nat → Nat) (K : Nat) (p0 : Int32) (μ : MS) (r : Int32) (μ' : MS) (hf : fX4_forget K p0 μ = some (r, μ')) : CI l yX4_forget (ws_ yX4_forget cX4_forget 3 (Option.some Jvm.ClassFile.FieldType.int)) (rmc 2 0 0 46) D d z [.ref o, .int p0] (MP d o a μ) r (MP d o a μ') := by
  refine mI_of rfl (by decide) (Nat.le_of_ble_eq_true rfl) ?_
  intro p e s m args below meth c A Q ls S hK hP hD hZ hS hA hl hret
  have hx := S.1
  have hb := S.2.1
  have hts := S.2.2.2.2
  have hl : lv_has ls 3 [(0, .ref o), (1, .int p0)] := hl
  have L18 : ∀ (n : Nat) (x18_2 : Int32) (μ18 : MS) (H : Heap) (locs : List Loc) (ls : Array Slot), fX4_forget_L18 K n x18_2 μ18 = some (r, μ') → va_P D CL (MP d o a μ18) H → va_D A (MP d o a μ18) → va_S A s.heap H locs → lv_has ls 3 [(0, .ref o), (2, .int x18_2)] → W p l e (rmc 2 0 0 46) s m args below meth c H locs 0 0 Q (F0 m 18 ls []) := by
    intro n
    induction n with
    | zero =>
      intro x18_2 μ18 H locs ls hf hP hD hS hl
      rw [fX4_forget_L18] at hf
      cases hf
    | succ n ih =>
      intro x18_2 μ18 H locs ls hf hP hD hS hl
      rw [fX4_forget_L18] at hf
      refine lv_iload_n hx hb dX4_forget_18 rfl (lv_at hl 1 rfl) ?_
      refine lv_aload_n hx hb dX4_forget_19 rfl (lv_at hl 0 rfl) ?_
      refine m_get S hK hP 0 (by decide) q1600 rfl dX4_forget_20 ?_
      refine lv_sipush (v := 205) hx hb dX4_forget_23 (by decide) ?_
      obtain ⟨g_8, hf⟩ := ga_some hf
      refine m_ild S hK hP 0 1 rfl g_8 dX4_forget_26 ?_
      clear g_8
      refine lv_icmp_ge (tgt := 44) hx hb dX4_forget_27 (by decide) (fun c_9 => ?_) (fun c_9 => ?_)
      · replace hf := it_t hf c_9
        clear c_9
        refine lv_aload_n hx hb dX4_forget_44 rfl (lv_at hl 0 rfl) ?_
        refine m_get S hK hP 0 (by decide) q1600 rfl dX4_forget_45 ?_
        refine lv_sipush (v := 205) hx hb dX4_forget_48 (by decide) ?_
        refine lv_dup2_11 hx hb dX4_forget_51 rfl rfl ?_
        obtain ⟨g_10, hf⟩ := ga_some hf
        refine m_ild S hK hP 0 1 rfl g_10 dX4_forget_52 ?_
        clear g_10
        refine lv_iconst (v := 1) hx hb dX4_forget_53 (by decide) ?_
        refine lv_isub hx hb dX4_forget_54 ?_
        obtain ⟨g_11, hf⟩ := ga_some hf
        refine m_ist S hK hP hD hS 0 1 rfl g_11 rfl dX4_forget_55 ?_
        clear hP hD hS
        intro μ_12 e_ H locs hP hD hS
        replace hf := nm_some hf μ_12 e_
        clear e_
        clear g_11
        refine lv_aload_n hx hb dX4_forget_56 rfl (lv_at hl 0 rfl) ?_
        refine m_get S hK hP 0 (by decide) q1600 rfl dX4_forget_57 ?_
        refine lv_sipush (v := 205) hx hb dX4_forget_60 (by decide) ?_
        obtain ⟨g_13, hf⟩ := ga_some hf
        refine m_ild S hK hP 0 1 rfl g_13 dX4_forget_63 ?_
        clear g_13
        exact hret _ _ _ _ _ _ hf dX4_forget_64 hP hD hS
      · replace hf := it_f hf c_9
        clear c_9
        refine lv_aload_n hx hb dX4_forget_30 rfl (lv_at hl 0 rfl) ?_
        refine lv_iload_n hx hb dX4_forget_31 rfl (lv_at hl 1 rfl) ?_
        refine lv_iload_n hx hb dX4_forget_32 rfl (lv_at hl 1 rfl) ?_
        refine lv_iconst (v := 1) hx hb dX4_forget_33 (by decide) ?_
        refine lv_isub hx hb dX4_forget_34 ?_
        obtain ⟨μ_14, h_15, hf⟩ := b1_some hf
        refine cv_call S hK hP hD hZ hS hA (tX4_moveEntry l D d z o a K x18_2 (x18_2 - (1 : Int32)) μ18 _ h_15) (cwV 2 hts (lw_V q2165 q2167 qs91 q101 q2168) rfl rfl rfl (by decide +kernel) ⟨Nat.le_of_ble_eq_true rfl, Nat.le_of_ble_eq_true rfl⟩) (ci := 0) (q0 := 0) rfl rfl rfl hl.1 rfl (Nat.le_of_ble_eq_true rfl) ⟨Nat.le_of_ble_eq_true rfl, Nat.le_of_ble_eq_true rfl⟩ dX4_forget_35 ?_
        clear hP hD hS
        intro H locs hP hD hS
        clear h_15
        refine lv_iinc (v := x18_2 + (1 : Int32)) (lv' := [(2, .int (x18_2 + (1 : Int32))), (0, .ref o)]) hx hb dX4_forget_38 hl (k := 1) rfl rfl (by decide) rfl (fun ls hl => ?_)
        refine lv_goto (tgt := 18) hx hb dX4_forget_41 (by decide) ?_
        exact ih (x18_2 + (1 : Int32)) μ_14 _ _ _ hf hP hD hS (lv_sub hl [1, 0] rfl)
  unfold fX4_forget at hf
  refine lv_aload_n hx hb dX4_forget_0 rfl (lv_at hl 0 rfl) ?_
  refine lv_iload_n hx hb dX4_forget_1 rfl (lv_at hl 1 rfl) ?_
  obtain ⟨r_3, μ_1, h_2, hf⟩ := b2_some hf
  refine ci_call S hK hP hD hZ hS hA (tX4_isEntry l D d z o a K p0 μ _ _ h_2) (cwV 1 hts (lw_V q2177 q2179 qs92 q101 q2180) rfl rfl rfl (by decide +kernel) ⟨Nat.le_of_ble_eq_true rfl, Nat.le_of_ble_eq_true rfl⟩) (ci := 0) (q0 := 0) rfl rfl rfl hl.1 rfl (Nat.le_of_ble_eq_true rfl) ⟨Nat.le_of_ble_eq_true rfl, Nat.le_of_ble_eq_true rfl⟩ dX4_forget_2 ?_
  clear hP hD hS
  intro H locs hP hD hS
  clear h_2
  refine lv_if_ne (tgt := 10) hx hb dX4_forget_5 (by decide) (fun c_4 => ?_) (fun c_4 => ?_)
  · replace hf := it_t hf (bi_n0 c_4)
    clear c_4
    refine lv_aload_n hx hb dX4_forget_10 rfl (lv_at hl 0 rfl) ?_
    obtain ⟨μ_5, h_6, hf⟩ := b1_some hf
    refine cv_call S hK hP hD hZ hS hA (tX4_remember l D d z o a K μ_1 _ h_6) (cwV 0 hts (lw_V q1922 q1924 qs73 q101 q1925) rfl rfl rfl (by decide +kernel) ⟨Nat.le_of_ble_eq_true rfl, Nat.le_of_ble_eq_true rfl⟩) (ci := 0) (q0 := 0) rfl rfl rfl hl.1 rfl (Nat.le_of_ble_eq_true rfl) ⟨Nat.le_of_ble_eq_true rfl, Nat.le_of_ble_eq_true rfl⟩ dX4_forget_11 ?_
    clear hP hD hS
    intro H locs hP hD hS
    clear h_6
    refine lv_iload_n hx hb dX4_forget_14 rfl (lv_at hl 1 rfl) ?_
    refine lv_iconst (v := 1) hx hb dX4_forget_15 (by decide) ?_
    refine lv_iadd hx hb dX4_forget_16 ?_
    refine lv_topi (fun v_7 e_ => ?_)
    replace hf := nm_some hf v_7 e_
    clear e_
    refine lv_istore_n (lv' := [(2, .int v_7), (0, .ref o), (1, .int p0)]) hx hb dX4_forget_17 rfl hl (by decide) rfl (fun ls hl => ?_)
    exact L18 K v_7 μ_5 _ _ _ hf hP hD hS (lv_sub hl [1, 0] rfl)
  · replace hf := it_f hf (bi_e0 c_4)
    clear c_4
    refine lv_iconst (v := -1) hx hb dX4_forget_8 (by decide) ?_
    exact hret _ _ _ _ _ _ hf dX4_forget_9 hP hD hS
def fX4_memoryCount (K : Nat) (μ : MS) : Option (Int32 × MS) :=
  if (μ.1 3) = 0 then
    some ((-1 : Int32), μ)
  else
    ga (ix (205 : Int32) 254) <|
    some (μ.2.2 0 (205 : Int32).toNatClampNeg, μ)
set_option maxHeartbeats 4000000 in
set_option maxRecDepth 100000 in
theorem tX4_memoryCount (l : Launch) (D : va_G) (d : Nat → ClassId) (z : ZT) (o : Nat) (a : Nat → Nat) (K : Nat) (μ : MS) (r : Int32) (μ' : MS) (hf : fX4_memoryCount K μ = some (r, μ')) : CI l yX4_memoryCount (ws_ yX4_memoryCount cX4_memoryCount 1 (Option.some Jvm.ClassFile.FieldType.int)) (rmc 0 0 0 0) D d z [.ref o] (MP d o a μ) r (MP d o a μ') := by
  refine mI_of rfl (by decide) (Nat.le_of_ble_eq_true rfl) ?_
  intro p e s m args below meth c A Q ls S hK hP hD hZ hS hA hl hret
  have hx := S.1
  have hb := S.2.1
  have hts := S.2.2.2.2
  have hl : lv_has ls 1 [(0, .ref o)] := hl
  unfold fX4_memoryCount at hf
  refine lv_aload_n hx hb dX4_memoryCount_0 rfl (lv_at hl 0 rfl) ?_
  refine m_get S hK hP 3 (by decide) q1603 rfl dX4_memoryCount_1 ?_
  refine lv_if_eq (tgt := 18) hx hb dX4_memoryCount_4 (by decide) (fun c_1 => ?_) (fun c_1 => ?_)
  · replace hf := it_t hf c_1
    clear c_1
    refine lv_iconst (v := -1) hx hb dX4_memoryCount_18 (by decide) ?_
    exact hret _ _ _ _ _ _ hf dX4_memoryCount_19 hP hD hS
  · replace hf := it_f hf c_1
    clear c_1
    refine lv_aload_n hx hb dX4_memoryCount_7 rfl (lv_at hl 0 rfl) ?_
    refine m_get S hK hP 0 (by decide) q1600 rfl dX4_memoryCount_8 ?_
    refine lv_sipush (v := 205) hx hb dX4_memoryCount_11 (by decide) ?_
    obtain ⟨g_2, hf⟩ := ga_some hf
    refine m_ild S hK hP 0 1 rfl g_2 dX4_memoryCount_14 ?_
    clear g_2
    refine lv_goto (tgt := 19) hx hb dX4_memoryCount_15 (by decide) ?_
    exact hret _ _ _ _ _ _ hf dX4_memoryCount_19 hP hD hS
def fX4_memoryFrequency (K : Nat) (p0 : Int32) (μ : MS) : Option (Int32 × MS) :=
  b2 (fX4_isEntry K p0 μ) fun r_3 μ_1 =>
  if r_3 = true then
    ga (ix ((206 : Int32) + p0) 254) <|
    some (μ_1.2.2 0 ((206 : Int32) + p0).toNatClampNeg, μ_1)
  else
    some ((-1 : Int32), μ_1)
set_option maxHeartbeats 4000000 in
set_option maxRecDepth 100000 in
theorem tX4_memoryFrequency (l : Launch) (D : va_G) (d : Nat → ClassId) (z : ZT) (o : Nat) (a : Nat → Nat) (K : Nat) (p0 : Int32) (μ : MS) (r : Int32) (μ' : MS) (hf : fX4_memoryFrequency K p0 μ = some (r, μ')) : CI l yX4_memoryFrequency (ws_ yX4_memoryFrequency cX4_memoryFrequency 2 (Option.some Jvm.ClassFile.FieldType.int)) (rmc 2 0 0 46) D d z [.ref o, .int p0] (MP d o a μ) r (MP d o a μ') := by
  refine mI_of rfl (by decide) (Nat.le_of_ble_eq_true rfl) ?_
  intro p e s m args below meth c A Q ls S hK hP hD hZ hS hA hl hret
  have hx := S.1
  have hb := S.2.1
  have hts := S.2.2.2.2
  have hl : lv_has ls 2 [(0, .ref o), (1, .int p0)] := hl
  unfold fX4_memoryFrequency at hf
  refine lv_aload_n hx hb dX4_memoryFrequency_0 rfl (lv_at hl 0 rfl) ?_
  refine lv_iload_n hx hb dX4_memoryFrequency_1 rfl (lv_at hl 1 rfl) ?_
  obtain ⟨r_3, μ_1, h_2, hf⟩ := b2_some hf
  refine ci_call S hK hP hD hZ hS hA (tX4_isEntry l D d z o a K p0 μ _ _ h_2) (cwV 1 hts (lw_V q2177 q2179 qs92 q101 q2180) rfl rfl rfl (by decide +kernel) ⟨Nat.le_of_ble_eq_true rfl, Nat.le_of_ble_eq_true rfl⟩) (ci := 0) (q0 := 0) rfl rfl rfl hl.1 rfl (Nat.le_of_ble_eq_true rfl) ⟨Nat.le_of_ble_eq_true rfl, Nat.le_of_ble_eq_true rfl⟩ dX4_memoryFrequency_2 ?_
  clear hP hD hS
  intro H locs hP hD hS
  clear h_2
  refine lv_if_eq (tgt := 21) hx hb dX4_memoryFrequency_5 (by decide) (fun c_4 => ?_) (fun c_4 => ?_)
  · replace hf := it_f hf (bi_e0 c_4)
    clear c_4
    refine lv_iconst (v := -1) hx hb dX4_memoryFrequency_21 (by decide) ?_
    exact hret _ _ _ _ _ _ hf dX4_memoryFrequency_22 hP hD hS
  · replace hf := it_t hf (bi_n0 c_4)
    clear c_4
    refine lv_aload_n hx hb dX4_memoryFrequency_8 rfl (lv_at hl 0 rfl) ?_
    refine m_get S hK hP 0 (by decide) q1600 rfl dX4_memoryFrequency_9 ?_
    refine lv_sipush (v := 206) hx hb dX4_memoryFrequency_12 (by decide) ?_
    refine lv_iload_n hx hb dX4_memoryFrequency_15 rfl (lv_at hl 1 rfl) ?_
    refine lv_iadd hx hb dX4_memoryFrequency_16 ?_
    obtain ⟨g_5, hf⟩ := ga_some hf
    refine m_ild S hK hP 0 1 rfl g_5 dX4_memoryFrequency_17 ?_
    clear g_5
    refine lv_goto (tgt := 22) hx hb dX4_memoryFrequency_18 (by decide) ?_
    exact hret _ _ _ _ _ _ hf dX4_memoryFrequency_22 hP hD hS
def fX4_memorySettings (K : Nat) (p0 : Int32) (μ : MS) : Option (Int32 × MS) :=
  b2 (fX4_isEntry K p0 μ) fun r_3 μ_1 =>
  if r_3 = true then
    ga (ix ((222 : Int32) + p0) 254) <|
    some (μ_1.2.2 0 ((222 : Int32) + p0).toNatClampNeg, μ_1)
  else
    some ((-1 : Int32), μ_1)
set_option maxHeartbeats 4000000 in
set_option maxRecDepth 100000 in
theorem tX4_memorySettings (l : Launch) (D : va_G) (d : Nat → ClassId) (z : ZT) (o : Nat) (a : Nat → Nat) (K : Nat) (p0 : Int32) (μ : MS) (r : Int32) (μ' : MS) (hf : fX4_memorySettings K p0 μ = some (r, μ')) : CI l yX4_memorySettings (ws_ yX4_memorySettings cX4_memorySettings 2 (Option.some Jvm.ClassFile.FieldType.int)) (rmc 2 0 0 46) D d z [.ref o, .int p0] (MP d o a μ) r (MP d o a μ') := by
  refine mI_of rfl (by decide) (Nat.le_of_ble_eq_true rfl) ?_
  intro p e s m args below meth c A Q ls S hK hP hD hZ hS hA hl hret
  have hx := S.1
  have hb := S.2.1
  have hts := S.2.2.2.2
  have hl : lv_has ls 2 [(0, .ref o), (1, .int p0)] := hl
  unfold fX4_memorySettings at hf
  refine lv_aload_n hx hb dX4_memorySettings_0 rfl (lv_at hl 0 rfl) ?_
  refine lv_iload_n hx hb dX4_memorySettings_1 rfl (lv_at hl 1 rfl) ?_
  obtain ⟨r_3, μ_1, h_2, hf⟩ := b2_some hf
  refine ci_call S hK hP hD hZ hS hA (tX4_isEntry l D d z o a K p0 μ _ _ h_2) (cwV 1 hts (lw_V q2177 q2179 qs92 q101 q2180) rfl rfl rfl (by decide +kernel) ⟨Nat.le_of_ble_eq_true rfl, Nat.le_of_ble_eq_true rfl⟩) (ci := 0) (q0 := 0) rfl rfl rfl hl.1 rfl (Nat.le_of_ble_eq_true rfl) ⟨Nat.le_of_ble_eq_true rfl, Nat.le_of_ble_eq_true rfl⟩ dX4_memorySettings_2 ?_
  clear hP hD hS
  intro H locs hP hD hS
  clear h_2
  refine lv_if_eq (tgt := 21) hx hb dX4_memorySettings_5 (by decide) (fun c_4 => ?_) (fun c_4 => ?_)
  · replace hf := it_f hf (bi_e0 c_4)
    clear c_4
    refine lv_iconst (v := -1) hx hb dX4_memorySettings_21 (by decide) ?_
    exact hret _ _ _ _ _ _ hf dX4_memorySettings_22 hP hD hS
  · replace hf := it_t hf (bi_n0 c_4)
    clear c_4
    refine lv_aload_n hx hb dX4_memorySettings_8 rfl (lv_at hl 0 rfl) ?_
    refine m_get S hK hP 0 (by decide) q1600 rfl dX4_memorySettings_9 ?_
    refine lv_sipush (v := 222) hx hb dX4_memorySettings_12 (by decide) ?_
    refine lv_iload_n hx hb dX4_memorySettings_15 rfl (lv_at hl 1 rfl) ?_
    refine lv_iadd hx hb dX4_memorySettings_16 ?_
    obtain ⟨g_5, hf⟩ := ga_some hf
    refine m_ild S hK hP 0 1 rfl g_5 dX4_memorySettings_17 ?_
    clear g_5
    refine lv_goto (tgt := 22) hx hb dX4_memorySettings_18 (by decide) ?_
    exact hret _ _ _ _ _ _ hf dX4_memorySettings_22 hP hD hS
def fX4_memorySwr (K : Nat) (p0 : Int32) (μ : MS) : Option (Int32 × MS) :=
  b2 (fX4_isEntry K p0 μ) fun r_3 μ_1 =>
  if r_3 = true then
    ga (ix ((238 : Int32) + p0) 254) <|
    some (μ_1.2.2 0 ((238 : Int32) + p0).toNatClampNeg, μ_1)
  else
    some ((-1 : Int32), μ_1)
set_option maxHeartbeats 4000000 in
set_option maxRecDepth 100000 in
theorem tX4_memorySwr (l : Launch) (D : va_G) (d : Nat → ClassId) (z : ZT) (o : Nat) (a : Nat → Nat) (K : Nat) (p0 : Int32) (μ : MS) (r : Int32) (μ' : MS) (hf : fX4_memorySwr K p0 μ = some (r, μ')) : CI l yX4_memorySwr (ws_ yX4_memorySwr cX4_memorySwr 2 (Option.some Jvm.ClassFile.FieldType.int)) (rmc 2 0 0 46) D d z [.ref o, .int p0] (MP d o a μ) r (MP d o a μ') := by
  refine mI_of rfl (by decide) (Nat.le_of_ble_eq_true rfl) ?_
  intro p e s m args below meth c A Q ls S hK hP hD hZ hS hA hl hret
  have hx := S.1
  have hb := S.2.1
  have hts := S.2.2.2.2
  have hl : lv_has ls 2 [(0, .ref o), (1, .int p0)] := hl
  unfold fX4_memorySwr at hf
  refine lv_aload_n hx hb dX4_memorySwr_0 rfl (lv_at hl 0 rfl) ?_
  refine lv_iload_n hx hb dX4_memorySwr_1 rfl (lv_at hl 1 rfl) ?_
  obtain ⟨r_3, μ_1, h_2, hf⟩ := b2_some hf
  refine ci_call S hK hP hD hZ hS hA (tX4_isEntry l D d z o a K p0 μ _ _ h_2) (cwV 1 hts (lw_V q2177 q2179 qs92 q101 q2180) rfl rfl rfl (by decide +kernel) ⟨Nat.le_of_ble_eq_true rfl, Nat.le_of_ble_eq_true rfl⟩) (ci := 0) (q0 := 0) rfl rfl rfl hl.1 rfl (Nat.le_of_ble_eq_true rfl) ⟨Nat.le_of_ble_eq_true rfl, Nat.le_of_ble_eq_true rfl⟩ dX4_memorySwr_2 ?_
  clear hP hD hS
  intro H locs hP hD hS
  clear h_2
  refine lv_if_eq (tgt := 21) hx hb dX4_memorySwr_5 (by decide) (fun c_4 => ?_) (fun c_4 => ?_)
  · replace hf := it_f hf (bi_e0 c_4)
    clear c_4
    refine lv_iconst (v := -1) hx hb dX4_memorySwr_21 (by decide) ?_
    exact hret _ _ _ _ _ _ hf dX4_memorySwr_22 hP hD hS
  · replace hf := it_t hf (bi_n0 c_4)
    clear c_4
    refine lv_aload_n hx hb dX4_memorySwr_8 rfl (lv_at hl 0 rfl) ?_
    refine m_get S hK hP 0 (by decide) q1600 rfl dX4_memorySwr_9 ?_
    refine lv_sipush (v := 238) hx hb dX4_memorySwr_12 (by decide) ?_
    refine lv_iload_n hx hb dX4_memorySwr_15 rfl (lv_at hl 1 rfl) ?_
    refine lv_iadd hx hb dX4_memorySwr_16 ?_
    obtain ⟨g_5, hf⟩ := ga_some hf
    refine m_ild S hK hP 0 1 rfl g_5 dX4_memorySwr_17 ?_
    clear g_5
    refine lv_goto (tgt := 22) hx hb dX4_memorySwr_18 (by decide) ?_
    exact hret _ _ _ _ _ _ hf dX4_memorySwr_22 hP hD hS
def fX4_finish (K : Nat) (p0 : Int32) (μ : MS) : Option (Int32 × MS) :=
  b1 (fX4_search K p0 μ) fun μ_1 =>
  nm (sI μ_1 44 (0 : Int32)) fun μ_3 =>
  if (μ_3.1 41) ≤ (μ_3.1 9) then
    b2 (fX4_isOverloaded K (μ_3.1 40) μ_3) fun r_7 μ_5 =>
    if r_7 = true then
      b1 (fX4_link K (1 : Int32) (μ_5.1 41) μ_5) fun μ_13 =>
      b2 (fX4_voltageOf K (μ_13.1 40) (μ_13.1 7) μ_13) fun r_17 μ_15 =>
      b1 (fX4_link K (3 : Int32) r_17 μ_15) fun μ_18 =>
      b2 (fX4_efficiencyOf K (μ_18.1 40) μ_18) fun r_22 μ_20 =>
      if (500 : Int32) ≤ r_22 then
        some ((-3 : Int32), μ_20)
      else
        b2 (fX4_efficiencyOf K (μ_20.1 40) μ_20) fun r_26 μ_24 =>
        b1 (fX4_link K (4 : Int32) r_26 μ_24) fun μ_27 =>
        some ((-3 : Int32), μ_27)
    else
      b1 (fX4_remember K μ_5) fun μ_9 =>
      b1 (fX4_change K (1 : Int32) (μ_9.1 40) μ_9) fun μ_11 =>
      some (μ_11.1 41, μ_11)
  else
    b1 (fX4_link K (1 : Int32) (μ_3.1 41) μ_3) fun μ_29 =>
    b1 (fX4_coil K (μ_29.1 40)) fun r_31 =>
    b1 (fX4_isEdge K r_31) fun r_33 =>
    if r_33 = true then
      b1 (fX4_coil K (μ_29.1 40)) fun r_45 =>
      b1 (fX4_link K (2 : Int32) r_45 μ_29) fun μ_47 =>
      some ((-3 : Int32), μ_47)
    else
      b1 (fX4_capacitor K (μ_29.1 40)) fun r_36 =>
      b1 (fX4_isEdge K r_36) fun r_38 =>
      if r_38 = true then
        b1 (fX4_capacitor K (μ_29.1 40)) fun r_41 =>
        b1 (fX4_link K (2 : Int32) r_41 μ_29) fun μ_43 =>
        some ((-3 : Int32), μ_43)
      else
        some ((-3 : Int32), μ_29)
set_option maxHeartbeats 4000000 in
set_option maxRecDepth 100000 in
theorem tX4_finish (l : Launch) (D : va_G) (d : Nat → ClassId) (z : ZT) (o : Nat) (a : Nat → Nat) (K : Nat) (p0 : Int32) (μ : MS) (r : Int32) (μ' : MS) (hf : fX4_finish K p0 μ = some (r, μ')) : CI l yX4_finish (ws_ yX4_finish cX4_finish 2 (Option.some Jvm.ClassFile.FieldType.int)) (rmc 6 0 0 153) D d z [.ref o, .int p0] (MP d o a μ) r (MP d o a μ') := by
  refine mI_of rfl (by decide) (Nat.le_of_ble_eq_true rfl) ?_
  intro p e s m args below meth c A Q ls S hK hP hD hZ hS hA hl hret
  have hx := S.1
  have hb := S.2.1
  have hts := S.2.2.2.2
  have hl : lv_has ls 2 [(0, .ref o), (1, .int p0)] := hl
  unfold fX4_finish at hf
  refine lv_aload_n hx hb dX4_finish_0 rfl (lv_at hl 0 rfl) ?_
  refine lv_iload_n hx hb dX4_finish_1 rfl (lv_at hl 1 rfl) ?_
  obtain ⟨μ_1, h_2, hf⟩ := b1_some hf
  refine cv_call S hK hP hD hZ hS hA (tX4_search l D d z o a K p0 μ _ h_2) (cwV 1 hts (lw_V q2105 q2107 qs86 q101 q2108) rfl rfl rfl (by decide +kernel) ⟨Nat.le_of_ble_eq_true rfl, Nat.le_of_ble_eq_true rfl⟩) (ci := 0) (q0 := 0) rfl rfl rfl hl.1 rfl (Nat.le_of_ble_eq_true rfl) ⟨Nat.le_of_ble_eq_true rfl, Nat.le_of_ble_eq_true rfl⟩ dX4_finish_2 ?_
  clear hP hD hS
  intro H locs hP hD hS
  clear h_2
  refine lv_aload_n hx hb dX4_finish_5 rfl (lv_at hl 0 rfl) ?_
  refine lv_iconst (v := 0) hx hb dX4_finish_6 (by decide) ?_
  refine m_putI S hK hP hD hS 44 (by decide) q1644 rfl rfl rfl rfl rfl dX4_finish_7 ?_
  clear hP hD hS
  intro μ_3 e_ H locs hP hD hS
  replace hf := nm_some hf μ_3 e_
  clear e_
  refine lv_aload_n hx hb dX4_finish_10 rfl (lv_at hl 0 rfl) ?_
  refine m_get S hK hP 41 (by decide) q1641 rfl dX4_finish_11 ?_
  refine lv_aload_n hx hb dX4_finish_14 rfl (lv_at hl 0 rfl) ?_
  refine m_get S hK hP 9 (by decide) q1609 rfl dX4_finish_15 ?_
  refine lv_icmp_le (tgt := 86) hx hb dX4_finish_18 (by decide) (fun c_4 => ?_) (fun c_4 => ?_)
  · replace hf := it_t hf c_4
    clear c_4
    refine lv_aload_n hx hb dX4_finish_86 rfl (lv_at hl 0 rfl) ?_
    refine lv_aload_n hx hb dX4_finish_87 rfl (lv_at hl 0 rfl) ?_
    refine m_get S hK hP 40 (by decide) q1640 rfl dX4_finish_88 ?_
    obtain ⟨r_7, μ_5, h_6, hf⟩ := b2_some hf
    refine ci_call S hK hP hD hZ hS hA (tX4_isOverloaded l D d z o a K (μ_3.1 40) μ_3 _ _ h_6) (cwV 1 hts (lw_V q2070 q2072 qs83 q101 q2073) rfl rfl rfl (by decide +kernel) ⟨Nat.le_of_ble_eq_true rfl, Nat.le_of_ble_eq_true rfl⟩) (ci := 0) (q0 := 0) rfl rfl rfl hl.1 rfl (Nat.le_of_ble_eq_true rfl) ⟨Nat.le_of_ble_eq_true rfl, Nat.le_of_ble_eq_true rfl⟩ dX4_finish_91 ?_
    clear hP hD hS
    intro H locs hP hD hS
    clear h_6
    refine lv_if_eq (tgt := 153) hx hb dX4_finish_94 (by decide) (fun c_8 => ?_) (fun c_8 => ?_)
    · replace hf := it_f hf (bi_e0 c_8)
      clear c_8
      refine lv_aload_n hx hb dX4_finish_153 rfl (lv_at hl 0 rfl) ?_
      obtain ⟨μ_9, h_10, hf⟩ := b1_some hf
      refine cv_call S hK hP hD hZ hS hA (tX4_remember l D d z o a K μ_5 _ h_10) (cwV 0 hts (lw_V q1922 q1924 qs73 q101 q1925) rfl rfl rfl (by decide +kernel) ⟨Nat.le_of_ble_eq_true rfl, Nat.le_of_ble_eq_true rfl⟩) (ci := 0) (q0 := 0) rfl rfl rfl hl.1 rfl (Nat.le_of_ble_eq_true rfl) ⟨Nat.le_of_ble_eq_true rfl, Nat.le_of_ble_eq_true rfl⟩ dX4_finish_154 ?_
      clear hP hD hS
      intro H locs hP hD hS
      clear h_10
      refine lv_aload_n hx hb dX4_finish_157 rfl (lv_at hl 0 rfl) ?_
      refine lv_iconst (v := 1) hx hb dX4_finish_158 (by decide) ?_
      refine lv_aload_n hx hb dX4_finish_159 rfl (lv_at hl 0 rfl) ?_
      refine m_get S hK hP 40 (by decide) q1640 rfl dX4_finish_160 ?_
      obtain ⟨μ_11, h_12, hf⟩ := b1_some hf
      refine cv_call S hK hP hD hZ hS hA (tX4_change l D d z o a K (1 : Int32) (μ_9.1 40) μ_9 _ h_12) (cwV 2 hts (lw_V q1926 q1928 qs74 q101 q1929) rfl rfl rfl (by decide +kernel) ⟨Nat.le_of_ble_eq_true rfl, Nat.le_of_ble_eq_true rfl⟩) (ci := 0) (q0 := 0) rfl rfl rfl hl.1 rfl (Nat.le_of_ble_eq_true rfl) ⟨Nat.le_of_ble_eq_true rfl, Nat.le_of_ble_eq_true rfl⟩ dX4_finish_163 ?_
      clear hP hD hS
      intro H locs hP hD hS
      clear h_12
      refine lv_aload_n hx hb dX4_finish_166 rfl (lv_at hl 0 rfl) ?_
      refine m_get S hK hP 41 (by decide) q1641 rfl dX4_finish_167 ?_
      exact hret _ _ _ _ _ _ hf dX4_finish_170 hP hD hS
    · replace hf := it_t hf (bi_n0 c_8)
      clear c_8
      refine lv_aload_n hx hb dX4_finish_97 rfl (lv_at hl 0 rfl) ?_
      refine lv_iconst (v := 1) hx hb dX4_finish_98 (by decide) ?_
      refine lv_aload_n hx hb dX4_finish_99 rfl (lv_at hl 0 rfl) ?_
      refine m_get S hK hP 41 (by decide) q1641 rfl dX4_finish_100 ?_
      obtain ⟨μ_13, h_14, hf⟩ := b1_some hf
      refine cv_call S hK hP hD hZ hS hA (tX4_link l D d z o a K (1 : Int32) (μ_5.1 41) μ_5 _ h_14) (cwV 2 hts (lw_V q2113 q2115 qs88 q101 q2116) rfl rfl rfl (by decide +kernel) ⟨Nat.le_of_ble_eq_true rfl, Nat.le_of_ble_eq_true rfl⟩) (ci := 0) (q0 := 0) rfl rfl rfl hl.1 rfl (Nat.le_of_ble_eq_true rfl) ⟨Nat.le_of_ble_eq_true rfl, Nat.le_of_ble_eq_true rfl⟩ dX4_finish_103 ?_
      clear hP hD hS
      intro H locs hP hD hS
      clear h_14
      refine lv_aload_n hx hb dX4_finish_106 rfl (lv_at hl 0 rfl) ?_
      refine lv_iconst (v := 3) hx hb dX4_finish_107 (by decide) ?_
      refine lv_aload_n hx hb dX4_finish_108 rfl (lv_at hl 0 rfl) ?_
      refine lv_aload_n hx hb dX4_finish_109 rfl (lv_at hl 0 rfl) ?_
      refine m_get S hK hP 40 (by decide) q1640 rfl dX4_finish_110 ?_
      refine lv_aload_n hx hb dX4_finish_113 rfl (lv_at hl 0 rfl) ?_
      refine m_get S hK hP 7 (by decide) q1607 rfl dX4_finish_114 ?_
      obtain ⟨r_17, μ_15, h_16, hf⟩ := b2_some hf
      refine ci_call S hK hP hD hZ hS hA (tX4_voltageOf l D d z o a K (μ_13.1 40) (μ_13.1 7) μ_13 _ _ h_16) (cwV 2 hts (lw_V q2040 q2042 qs81 q101 q2043) rfl rfl rfl (by decide +kernel) ⟨Nat.le_of_ble_eq_true rfl, Nat.le_of_ble_eq_true rfl⟩) (ci := 0) (q0 := 0) rfl rfl rfl hl.1 rfl (Nat.le_of_ble_eq_true rfl) ⟨Nat.le_of_ble_eq_true rfl, Nat.le_of_ble_eq_true rfl⟩ dX4_finish_117 ?_
      clear hP hD hS
      intro H locs hP hD hS
      clear h_16
      obtain ⟨μ_18, h_19, hf⟩ := b1_some hf
      refine cv_call S hK hP hD hZ hS hA (tX4_link l D d z o a K (3 : Int32) r_17 μ_15 _ h_19) (cwV 2 hts (lw_V q2113 q2115 qs88 q101 q2116) rfl rfl rfl (by decide +kernel) ⟨Nat.le_of_ble_eq_true rfl, Nat.le_of_ble_eq_true rfl⟩) (ci := 0) (q0 := 0) rfl rfl rfl hl.1 rfl (Nat.le_of_ble_eq_true rfl) ⟨Nat.le_of_ble_eq_true rfl, Nat.le_of_ble_eq_true rfl⟩ dX4_finish_120 ?_
      clear hP hD hS
      intro H locs hP hD hS
      clear h_19
      refine lv_aload_n hx hb dX4_finish_123 rfl (lv_at hl 0 rfl) ?_
      refine lv_aload_n hx hb dX4_finish_124 rfl (lv_at hl 0 rfl) ?_
      refine m_get S hK hP 40 (by decide) q1640 rfl dX4_finish_125 ?_
      obtain ⟨r_22, μ_20, h_21, hf⟩ := b2_some hf
      refine ci_call S hK hP hD hZ hS hA (tX4_efficiencyOf l D d z o a K (μ_18.1 40) μ_18 _ _ h_21) (cwV 1 hts (lw_V q2031 q2033 qs80 q101 q2034) rfl rfl rfl (by decide +kernel) ⟨Nat.le_of_ble_eq_true rfl, Nat.le_of_ble_eq_true rfl⟩) (ci := 0) (q0 := 0) rfl rfl rfl hl.1 rfl (Nat.le_of_ble_eq_true rfl) ⟨Nat.le_of_ble_eq_true rfl, Nat.le_of_ble_eq_true rfl⟩ dX4_finish_128 ?_
      clear hP hD hS
      intro H locs hP hD hS
      clear h_21
      refine lv_sipush (v := 500) hx hb dX4_finish_131 (by decide) ?_
      refine lv_icmp_ge (tgt := 150) hx hb dX4_finish_134 (by decide) (fun c_23 => ?_) (fun c_23 => ?_)
      · replace hf := it_t hf c_23
        clear c_23
        refine lv_bipush (v := -3) hx hb dX4_finish_150 (by decide) ?_
        exact hret _ _ _ _ _ _ hf dX4_finish_152 hP hD hS
      · replace hf := it_f hf c_23
        clear c_23
        refine lv_aload_n hx hb dX4_finish_137 rfl (lv_at hl 0 rfl) ?_
        refine lv_iconst (v := 4) hx hb dX4_finish_138 (by decide) ?_
        refine lv_aload_n hx hb dX4_finish_139 rfl (lv_at hl 0 rfl) ?_
        refine lv_aload_n hx hb dX4_finish_140 rfl (lv_at hl 0 rfl) ?_
        refine m_get S hK hP 40 (by decide) q1640 rfl dX4_finish_141 ?_
        obtain ⟨r_26, μ_24, h_25, hf⟩ := b2_some hf
        refine ci_call S hK hP hD hZ hS hA (tX4_efficiencyOf l D d z o a K (μ_20.1 40) μ_20 _ _ h_25) (cwV 1 hts (lw_V q2031 q2033 qs80 q101 q2034) rfl rfl rfl (by decide +kernel) ⟨Nat.le_of_ble_eq_true rfl, Nat.le_of_ble_eq_true rfl⟩) (ci := 0) (q0 := 0) rfl rfl rfl hl.1 rfl (Nat.le_of_ble_eq_true rfl) ⟨Nat.le_of_ble_eq_true rfl, Nat.le_of_ble_eq_true rfl⟩ dX4_finish_144 ?_
        clear hP hD hS
        intro H locs hP hD hS
        clear h_25
        obtain ⟨μ_27, h_28, hf⟩ := b1_some hf
        refine cv_call S hK hP hD hZ hS hA (tX4_link l D d z o a K (4 : Int32) r_26 μ_24 _ h_28) (cwV 2 hts (lw_V q2113 q2115 qs88 q101 q2116) rfl rfl rfl (by decide +kernel) ⟨Nat.le_of_ble_eq_true rfl, Nat.le_of_ble_eq_true rfl⟩) (ci := 0) (q0 := 0) rfl rfl rfl hl.1 rfl (Nat.le_of_ble_eq_true rfl) ⟨Nat.le_of_ble_eq_true rfl, Nat.le_of_ble_eq_true rfl⟩ dX4_finish_147 ?_
        clear hP hD hS
        intro H locs hP hD hS
        clear h_28
        refine lv_bipush (v := -3) hx hb dX4_finish_150 (by decide) ?_
        exact hret _ _ _ _ _ _ hf dX4_finish_152 hP hD hS
  · replace hf := it_f hf c_4
    clear c_4
    refine lv_aload_n hx hb dX4_finish_21 rfl (lv_at hl 0 rfl) ?_
    refine lv_iconst (v := 1) hx hb dX4_finish_22 (by decide) ?_
    refine lv_aload_n hx hb dX4_finish_23 rfl (lv_at hl 0 rfl) ?_
    refine m_get S hK hP 41 (by decide) q1641 rfl dX4_finish_24 ?_
    obtain ⟨μ_29, h_30, hf⟩ := b1_some hf
    refine cv_call S hK hP hD hZ hS hA (tX4_link l D d z o a K (1 : Int32) (μ_3.1 41) μ_3 _ h_30) (cwV 2 hts (lw_V q2113 q2115 qs88 q101 q2116) rfl rfl rfl (by decide +kernel) ⟨Nat.le_of_ble_eq_true rfl, Nat.le_of_ble_eq_true rfl⟩) (ci := 0) (q0 := 0) rfl rfl rfl hl.1 rfl (Nat.le_of_ble_eq_true rfl) ⟨Nat.le_of_ble_eq_true rfl, Nat.le_of_ble_eq_true rfl⟩ dX4_finish_27 ?_
    clear hP hD hS
    intro H locs hP hD hS
    clear h_30
    refine lv_aload_n hx hb dX4_finish_30 rfl (lv_at hl 0 rfl) ?_
    refine m_get S hK hP 40 (by decide) q1640 rfl dX4_finish_31 ?_
    obtain ⟨r_31, h_32, hf⟩ := b1_some hf
    refine si_call S (tX4_coil l K (μ_29.1 40) _ h_32) (va_cwS 1 hts (lw_S q1934 q1935 q101 q1936) rfl rfl rfl (by decide +kernel) ⟨Nat.le_of_ble_eq_true rfl, Nat.le_of_ble_eq_true rfl⟩) rfl hl.1 rfl (Nat.le_of_ble_eq_true rfl) ⟨Nat.le_of_ble_eq_true rfl, Nat.le_of_ble_eq_true rfl⟩ dX4_finish_34 ?_
    clear h_32
    obtain ⟨r_33, h_34, hf⟩ := b1_some hf
    refine si_call S (tX4_isEdge l K r_31 _ h_34) (va_cwS 1 hts (lw_S q2117 q2118 q101 q2119) rfl rfl rfl (by decide +kernel) ⟨Nat.le_of_ble_eq_true rfl, Nat.le_of_ble_eq_true rfl⟩) rfl hl.1 rfl (Nat.le_of_ble_eq_true rfl) ⟨Nat.le_of_ble_eq_true rfl, Nat.le_of_ble_eq_true rfl⟩ dX4_finish_37 ?_
    clear h_34
    refine lv_if_eq (tgt := 58) hx hb dX4_finish_40 (by decide) (fun c_35 => ?_) (fun c_35 => ?_)
    · replace hf := it_f hf (bi_e0 c_35)
      clear c_35
      refine lv_aload_n hx hb dX4_finish_58 rfl (lv_at hl 0 rfl) ?_
      refine m_get S hK hP 40 (by decide) q1640 rfl dX4_finish_59 ?_
      obtain ⟨r_36, h_37, hf⟩ := b1_some hf
      refine si_call S (tX4_capacitor l K (μ_29.1 40) _ h_37) (va_cwS 1 hts (lw_S q1937 q1938 q101 q1939) rfl rfl rfl (by decide +kernel) ⟨Nat.le_of_ble_eq_true rfl, Nat.le_of_ble_eq_true rfl⟩) rfl hl.1 rfl (Nat.le_of_ble_eq_true rfl) ⟨Nat.le_of_ble_eq_true rfl, Nat.le_of_ble_eq_true rfl⟩ dX4_finish_62 ?_
      clear h_37
      obtain ⟨r_38, h_39, hf⟩ := b1_some hf
      refine si_call S (tX4_isEdge l K r_36 _ h_39) (va_cwS 1 hts (lw_S q2117 q2118 q101 q2119) rfl rfl rfl (by decide +kernel) ⟨Nat.le_of_ble_eq_true rfl, Nat.le_of_ble_eq_true rfl⟩) rfl hl.1 rfl (Nat.le_of_ble_eq_true rfl) ⟨Nat.le_of_ble_eq_true rfl, Nat.le_of_ble_eq_true rfl⟩ dX4_finish_65 ?_
      clear h_39
      refine lv_if_eq (tgt := 83) hx hb dX4_finish_68 (by decide) (fun c_40 => ?_) (fun c_40 => ?_)
      · replace hf := it_f hf (bi_e0 c_40)
        clear c_40
        refine lv_bipush (v := -3) hx hb dX4_finish_83 (by decide) ?_
        exact hret _ _ _ _ _ _ hf dX4_finish_85 hP hD hS
      · replace hf := it_t hf (bi_n0 c_40)
        clear c_40
        refine lv_aload_n hx hb dX4_finish_71 rfl (lv_at hl 0 rfl) ?_
        refine lv_iconst (v := 2) hx hb dX4_finish_72 (by decide) ?_
        refine lv_aload_n hx hb dX4_finish_73 rfl (lv_at hl 0 rfl) ?_
        refine m_get S hK hP 40 (by decide) q1640 rfl dX4_finish_74 ?_
        obtain ⟨r_41, h_42, hf⟩ := b1_some hf
        refine si_call S (tX4_capacitor l K (μ_29.1 40) _ h_42) (va_cwS 1 hts (lw_S q1937 q1938 q101 q1939) rfl rfl rfl (by decide +kernel) ⟨Nat.le_of_ble_eq_true rfl, Nat.le_of_ble_eq_true rfl⟩) rfl hl.1 rfl (Nat.le_of_ble_eq_true rfl) ⟨Nat.le_of_ble_eq_true rfl, Nat.le_of_ble_eq_true rfl⟩ dX4_finish_77 ?_
        clear h_42
        obtain ⟨μ_43, h_44, hf⟩ := b1_some hf
        refine cv_call S hK hP hD hZ hS hA (tX4_link l D d z o a K (2 : Int32) r_41 μ_29 _ h_44) (cwV 2 hts (lw_V q2113 q2115 qs88 q101 q2116) rfl rfl rfl (by decide +kernel) ⟨Nat.le_of_ble_eq_true rfl, Nat.le_of_ble_eq_true rfl⟩) (ci := 0) (q0 := 0) rfl rfl rfl hl.1 rfl (Nat.le_of_ble_eq_true rfl) ⟨Nat.le_of_ble_eq_true rfl, Nat.le_of_ble_eq_true rfl⟩ dX4_finish_80 ?_
        clear hP hD hS
        intro H locs hP hD hS
        clear h_44
        refine lv_bipush (v := -3) hx hb dX4_finish_83 (by decide) ?_
        exact hret _ _ _ _ _ _ hf dX4_finish_85 hP hD hS
    · replace hf := it_t hf (bi_n0 c_35)
      clear c_35
      refine lv_aload_n hx hb dX4_finish_43 rfl (lv_at hl 0 rfl) ?_
      refine lv_iconst (v := 2) hx hb dX4_finish_44 (by decide) ?_
      refine lv_aload_n hx hb dX4_finish_45 rfl (lv_at hl 0 rfl) ?_
      refine m_get S hK hP 40 (by decide) q1640 rfl dX4_finish_46 ?_
      obtain ⟨r_45, h_46, hf⟩ := b1_some hf
      refine si_call S (tX4_coil l K (μ_29.1 40) _ h_46) (va_cwS 1 hts (lw_S q1934 q1935 q101 q1936) rfl rfl rfl (by decide +kernel) ⟨Nat.le_of_ble_eq_true rfl, Nat.le_of_ble_eq_true rfl⟩) rfl hl.1 rfl (Nat.le_of_ble_eq_true rfl) ⟨Nat.le_of_ble_eq_true rfl, Nat.le_of_ble_eq_true rfl⟩ dX4_finish_49 ?_
      clear h_46
      obtain ⟨μ_47, h_48, hf⟩ := b1_some hf
      refine cv_call S hK hP hD hZ hS hA (tX4_link l D d z o a K (2 : Int32) r_45 μ_29 _ h_48) (cwV 2 hts (lw_V q2113 q2115 qs88 q101 q2116) rfl rfl rfl (by decide +kernel) ⟨Nat.le_of_ble_eq_true rfl, Nat.le_of_ble_eq_true rfl⟩) (ci := 0) (q0 := 0) rfl rfl rfl hl.1 rfl (Nat.le_of_ble_eq_true rfl) ⟨Nat.le_of_ble_eq_true rfl, Nat.le_of_ble_eq_true rfl⟩ dX4_finish_52 ?_
      clear hP hD hS
      intro H locs hP hD hS
      clear h_48
      refine lv_goto (tgt := 83) hx hb dX4_finish_55 (by decide) ?_
      refine lv_bipush (v := -3) hx hb dX4_finish_83 (by decide) ?_
      exact hret _ _ _ _ _ _ hf dX4_finish_85 hP hD hS
def fX4_tune (K : Nat) (μ : MS) : Option (Int32 × MS) :=
  if (μ.1 3) = 0 then
    some ((-1 : Int32), μ)
  else
    ga (ix (1 : Int32) 254) <|
    b2 (fX4_finish K (μ.2.2 0 (1 : Int32).toNatClampNeg) μ) fun r_5 μ_3 =>
    some (r_5, μ_3)
set_option maxHeartbeats 4000000 in
set_option maxRecDepth 100000 in
theorem tX4_tune (l : Launch) (D : va_G) (d : Nat → ClassId) (z : ZT) (o : Nat) (a : Nat → Nat) (K : Nat) (μ : MS) (r : Int32) (μ' : MS) (hf : fX4_tune K μ = some (r, μ')) : CI l yX4_tune (ws_ yX4_tune cX4_tune 1 (Option.some Jvm.ClassFile.FieldType.int)) (rmc 7 0 0 174) D d z [.ref o] (MP d o a μ) r (MP d o a μ') := by
  refine mI_of rfl (by decide) (Nat.le_of_ble_eq_true rfl) ?_
  intro p e s m args below meth c A Q ls S hK hP hD hZ hS hA hl hret
  have hx := S.1
  have hb := S.2.1
  have hts := S.2.2.2.2
  have hl : lv_has ls 1 [(0, .ref o)] := hl
  unfold fX4_tune at hf
  refine lv_aload_n hx hb dX4_tune_0 rfl (lv_at hl 0 rfl) ?_
  refine m_get S hK hP 3 (by decide) q1603 rfl dX4_tune_1 ?_
  refine lv_if_eq (tgt := 20) hx hb dX4_tune_4 (by decide) (fun c_1 => ?_) (fun c_1 => ?_)
  · replace hf := it_t hf c_1
    clear c_1
    refine lv_iconst (v := -1) hx hb dX4_tune_20 (by decide) ?_
    exact hret _ _ _ _ _ _ hf dX4_tune_21 hP hD hS
  · replace hf := it_f hf c_1
    clear c_1
    refine lv_aload_n hx hb dX4_tune_7 rfl (lv_at hl 0 rfl) ?_
    refine lv_aload_n hx hb dX4_tune_8 rfl (lv_at hl 0 rfl) ?_
    refine m_get S hK hP 0 (by decide) q1600 rfl dX4_tune_9 ?_
    refine lv_iconst (v := 1) hx hb dX4_tune_12 (by decide) ?_
    obtain ⟨g_2, hf⟩ := ga_some hf
    refine m_ild S hK hP 0 1 rfl g_2 dX4_tune_13 ?_
    clear g_2
    obtain ⟨r_5, μ_3, h_4, hf⟩ := b2_some hf
    refine ci_call S hK hP hD hZ hS hA (tX4_finish l D d z o a K (μ.2.2 0 (1 : Int32).toNatClampNeg) μ _ _ h_4) (cwV 1 hts (lw_V q2101 q2103 qs85 q101 q2104) rfl rfl rfl (by decide +kernel) ⟨Nat.le_of_ble_eq_true rfl, Nat.le_of_ble_eq_true rfl⟩) (ci := 0) (q0 := 0) rfl rfl rfl hl.1 rfl (Nat.le_of_ble_eq_true rfl) ⟨Nat.le_of_ble_eq_true rfl, Nat.le_of_ble_eq_true rfl⟩ dX4_tune_14 ?_
    clear hP hD hS
    intro H locs hP hD hS
    clear h_4
    refine lv_goto (tgt := 21) hx hb dX4_tune_17 (by decide) ?_
    exact hret _ _ _ _ _ _ hf dX4_tune_21 hP hD hS
def fX4_tuneCold (K : Nat) (μ : MS) : Option (Int32 × MS) :=
  if (μ.1 3) = 0 then
    some ((-1 : Int32), μ)
  else
    b2 (fX4_finish K (0 : Int32) μ) fun r_4 μ_2 =>
    some (r_4, μ_2)
set_option maxHeartbeats 4000000 in
set_option maxRecDepth 100000 in
theorem tX4_tuneCold (l : Launch) (D : va_G) (d : Nat → ClassId) (z : ZT) (o : Nat) (a : Nat → Nat) (K : Nat) (μ : MS) (r : Int32) (μ' : MS) (hf : fX4_tuneCold K μ = some (r, μ')) : CI l yX4_tuneCold (ws_ yX4_tuneCold cX4_tuneCold 1 (Option.some Jvm.ClassFile.FieldType.int)) (rmc 7 0 0 174) D d z [.ref o] (MP d o a μ) r (MP d o a μ') := by
  refine mI_of rfl (by decide) (Nat.le_of_ble_eq_true rfl) ?_
  intro p e s m args below meth c A Q ls S hK hP hD hZ hS hA hl hret
  have hx := S.1
  have hb := S.2.1
  have hts := S.2.2.2.2
  have hl : lv_has ls 1 [(0, .ref o)] := hl
  unfold fX4_tuneCold at hf
  refine lv_aload_n hx hb dX4_tuneCold_0 rfl (lv_at hl 0 rfl) ?_
  refine m_get S hK hP 3 (by decide) q1603 rfl dX4_tuneCold_1 ?_
  refine lv_if_eq (tgt := 15) hx hb dX4_tuneCold_4 (by decide) (fun c_1 => ?_) (fun c_1 => ?_)
  · replace hf := it_t hf c_1
    clear c_1
    refine lv_iconst (v := -1) hx hb dX4_tuneCold_15 (by decide) ?_
    exact hret _ _ _ _ _ _ hf dX4_tuneCold_16 hP hD hS
  · replace hf := it_f hf c_1
    clear c_1
    refine lv_aload_n hx hb dX4_tuneCold_7 rfl (lv_at hl 0 rfl) ?_
    refine lv_iconst (v := 0) hx hb dX4_tuneCold_8 (by decide) ?_
    obtain ⟨r_4, μ_2, h_3, hf⟩ := b2_some hf
    refine ci_call S hK hP hD hZ hS hA (tX4_finish l D d z o a K (0 : Int32) μ _ _ h_3) (cwV 1 hts (lw_V q2101 q2103 qs85 q101 q2104) rfl rfl rfl (by decide +kernel) ⟨Nat.le_of_ble_eq_true rfl, Nat.le_of_ble_eq_true rfl⟩) (ci := 0) (q0 := 0) rfl rfl rfl hl.1 rfl (Nat.le_of_ble_eq_true rfl) ⟨Nat.le_of_ble_eq_true rfl, Nat.le_of_ble_eq_true rfl⟩ dX4_tuneCold_9 ?_
    clear hP hD hS
    intro H locs hP hD hS
    clear h_3
    refine lv_goto (tgt := 16) hx hb dX4_tuneCold_12 (by decide) ?_
    exact hret _ _ _ _ _ _ hf dX4_tuneCold_16 hP hD hS
def fX4_tuneFromMemory_L77 (K : Nat) (t77_0 : Int32) (x77_2 : Int32) (μ77 : MS) : Option (Int32 × MS) :=
  if t77_0 = 0 then
    b2 (fX4_finish K (0 : Int32) μ77) fun r_20 μ_18 =>
    some (r_20, μ_18)
  else
    b2 (fX4_finish K x77_2 μ77) fun r_23 μ_21 =>
    some (r_23, μ_21)
def fX4_tuneFromMemory (K : Nat) (μ : MS) : Option (Int32 × MS) :=
  if (μ.1 3) = 0 then
    some ((-1 : Int32), μ)
  else
    b2 (fX4_suitable K μ) fun r_4 μ_2 =>
    if 0 ≤ r_4 then
      ga (ix ((222 : Int32) + r_4) 254) <|
      nm (μ_2.2.2 0 ((222 : Int32) + r_4).toNatClampNeg) fun v_7 =>
      ga (ix (0 : Int32) 254) <|
      b2 (fX4_ratio K v_7 (μ_2.2.2 0 (0 : Int32).toNatClampNeg) μ_2) fun r_11 μ_9 =>
      ga (ix (0 : Int32) 254) <|
      b2 (fX4_ratio K (0 : Int32) (μ_9.2.2 0 (0 : Int32).toNatClampNeg) μ_9) fun r_15 μ_13 =>
      if r_15 < r_11 then
        fX4_tuneFromMemory_L77 K (0 : Int32) v_7 μ_13
      else
        fX4_tuneFromMemory_L77 K (1 : Int32) v_7 μ_13
    else
      nm (sI μ_2 44 (0 : Int32)) fun μ_24 =>
      b1 (fX4_link K (1 : Int32) (0 : Int32) μ_24) fun μ_25 =>
      b1 (fX4_linkMissing K μ_25) fun μ_27 =>
      some ((-2 : Int32), μ_27)
set_option maxHeartbeats 4000000 in
set_option maxRecDepth 100000 in
theorem tX4_tuneFromMemory (l : Launch) (D : va_G) (d : Nat → ClassId) (z : ZT) (o : Nat) (a : Nat → Nat) (K : Nat) (μ : MS) (r : Int32) (μ' : MS) (hf : fX4_tuneFromMemory K μ = some (r, μ')) : CI l yX4_tuneFromMemory (ws_ yX4_tuneFromMemory cX4_tuneFromMemory 4 (Option.some Jvm.ClassFile.FieldType.int)) (rmc 7 0 0 174) D d z [.ref o] (MP d o a μ) r (MP d o a μ') := by
  refine mI_of rfl (by decide) (Nat.le_of_ble_eq_true rfl) ?_
  intro p e s m args below meth c A Q ls S hK hP hD hZ hS hA hl hret
  have hx := S.1
  have hb := S.2.1
  have hts := S.2.2.2.2
  have hl : lv_has ls 4 [(0, .ref o)] := hl
  have L77 : ∀ (t77_0 : Int32) (x77_2 : Int32) (μ77 : MS) (H : Heap) (locs : List Loc) (ls : Array Slot), fX4_tuneFromMemory_L77 K t77_0 x77_2 μ77 = some (r, μ') → va_P D CL (MP d o a μ77) H → va_D A (MP d o a μ77) → va_S A s.heap H locs → lv_has ls 4 [(0, .ref o), (2, .int x77_2)] → W p l e (rmc 7 0 0 174) s m args below meth c H locs 0 0 Q (F0 m 77 ls [.int t77_0]) := by
    intro t77_0 x77_2 μ77 H locs ls hf hP hD hS hl
    unfold fX4_tuneFromMemory_L77 at hf
    refine lv_istore_n (lv' := [(3, .int t77_0), (0, .ref o), (2, .int x77_2)]) hx hb dX4_tuneFromMemory_77 rfl hl (by decide) rfl (fun ls hl => ?_)
    refine lv_aload_n hx hb dX4_tuneFromMemory_78 rfl (lv_at hl 1 rfl) ?_
    refine lv_iload_n hx hb dX4_tuneFromMemory_79 rfl (lv_at hl 0 rfl) ?_
    refine lv_if_eq (tgt := 87) hx hb dX4_tuneFromMemory_80 (by decide) (fun c_17 => ?_) (fun c_17 => ?_)
    · replace hf := it_t hf c_17
      clear c_17
      refine lv_iconst (v := 0) hx hb dX4_tuneFromMemory_87 (by decide) ?_
      obtain ⟨r_20, μ_18, h_19, hf⟩ := b2_some hf
      refine ci_call S hK hP hD hZ hS hA (tX4_finish l D d z o a K (0 : Int32) μ77 _ _ h_19) (cwV 1 hts (lw_V q2101 q2103 qs85 q101 q2104) rfl rfl rfl (by decide +kernel) ⟨Nat.le_of_ble_eq_true rfl, Nat.le_of_ble_eq_true rfl⟩) (ci := 0) (q0 := 0) rfl rfl rfl hl.1 rfl (Nat.le_of_ble_eq_true rfl) ⟨Nat.le_of_ble_eq_true rfl, Nat.le_of_ble_eq_true rfl⟩ dX4_tuneFromMemory_88 ?_
      clear hP hD hS
      intro H locs hP hD hS
      clear h_19
      exact hret _ _ _ _ _ _ hf dX4_tuneFromMemory_91 hP hD hS
    · replace hf := it_f hf c_17
      clear c_17
      refine lv_iload_n hx hb dX4_tuneFromMemory_83 rfl (lv_at hl 2 rfl) ?_
      refine lv_goto (tgt := 88) hx hb dX4_tuneFromMemory_84 (by decide) ?_
      obtain ⟨r_23, μ_21, h_22, hf⟩ := b2_some hf
      refine ci_call S hK hP hD hZ hS hA (tX4_finish l D d z o a K x77_2 μ77 _ _ h_22) (cwV 1 hts (lw_V q2101 q2103 qs85 q101 q2104) rfl rfl rfl (by decide +kernel) ⟨Nat.le_of_ble_eq_true rfl, Nat.le_of_ble_eq_true rfl⟩) (ci := 0) (q0 := 0) rfl rfl rfl hl.1 rfl (Nat.le_of_ble_eq_true rfl) ⟨Nat.le_of_ble_eq_true rfl, Nat.le_of_ble_eq_true rfl⟩ dX4_tuneFromMemory_88 ?_
      clear hP hD hS
      intro H locs hP hD hS
      clear h_22
      exact hret _ _ _ _ _ _ hf dX4_tuneFromMemory_91 hP hD hS
  unfold fX4_tuneFromMemory at hf
  refine lv_aload_n hx hb dX4_tuneFromMemory_0 rfl (lv_at hl 0 rfl) ?_
  refine m_get S hK hP 3 (by decide) q1603 rfl dX4_tuneFromMemory_1 ?_
  refine lv_if_ne (tgt := 9) hx hb dX4_tuneFromMemory_4 (by decide) (fun c_1 => ?_) (fun c_1 => ?_)
  · replace hf := it_f hf c_1
    clear c_1
    refine lv_aload_n hx hb dX4_tuneFromMemory_9 rfl (lv_at hl 0 rfl) ?_
    obtain ⟨r_4, μ_2, h_3, hf⟩ := b2_some hf
    refine ci_call S hK hP hD hZ hS hA (tX4_suitable l D d z o a K μ _ _ h_3) (cwV 0 hts (lw_V q2128 q2130 qs89 q101 q2131) rfl rfl rfl (by decide +kernel) ⟨Nat.le_of_ble_eq_true rfl, Nat.le_of_ble_eq_true rfl⟩) (ci := 0) (q0 := 0) rfl rfl rfl hl.1 rfl (Nat.le_of_ble_eq_true rfl) ⟨Nat.le_of_ble_eq_true rfl, Nat.le_of_ble_eq_true rfl⟩ dX4_tuneFromMemory_10 ?_
    clear hP hD hS
    intro H locs hP hD hS
    clear h_3
    refine lv_istore_n (lv' := [(1, .int r_4), (0, .ref o)]) hx hb dX4_tuneFromMemory_13 rfl hl (by decide) rfl (fun ls hl => ?_)
    refine lv_iload_n hx hb dX4_tuneFromMemory_14 rfl (lv_at hl 0 rfl) ?_
    refine lv_if_ge (tgt := 36) hx hb dX4_tuneFromMemory_15 (by decide) (fun c_5 => ?_) (fun c_5 => ?_)
    · replace hf := it_t hf c_5
      clear c_5
      refine lv_aload_n hx hb dX4_tuneFromMemory_36 rfl (lv_at hl 1 rfl) ?_
      refine m_get S hK hP 0 (by decide) q1600 rfl dX4_tuneFromMemory_37 ?_
      refine lv_sipush (v := 222) hx hb dX4_tuneFromMemory_40 (by decide) ?_
      refine lv_iload_n hx hb dX4_tuneFromMemory_43 rfl (lv_at hl 0 rfl) ?_
      refine lv_iadd hx hb dX4_tuneFromMemory_44 ?_
      obtain ⟨g_6, hf⟩ := ga_some hf
      refine m_ild S hK hP 0 1 rfl g_6 dX4_tuneFromMemory_45 ?_
      clear g_6
      refine lv_topi (fun v_7 e_ => ?_)
      replace hf := nm_some hf v_7 e_
      clear e_
      refine lv_istore_n (lv' := [(2, .int v_7), (1, .int r_4), (0, .ref o)]) hx hb dX4_tuneFromMemory_46 rfl hl (by decide) rfl (fun ls hl => ?_)
      refine lv_aload_n hx hb dX4_tuneFromMemory_47 rfl (lv_at hl 2 rfl) ?_
      refine lv_iload_n hx hb dX4_tuneFromMemory_48 rfl (lv_at hl 0 rfl) ?_
      refine lv_aload_n hx hb dX4_tuneFromMemory_49 rfl (lv_at hl 2 rfl) ?_
      refine m_get S hK hP 0 (by decide) q1600 rfl dX4_tuneFromMemory_50 ?_
      refine lv_iconst (v := 0) hx hb dX4_tuneFromMemory_53 (by decide) ?_
      obtain ⟨g_8, hf⟩ := ga_some hf
      refine m_ild S hK hP 0 1 rfl g_8 dX4_tuneFromMemory_54 ?_
      clear g_8
      obtain ⟨r_11, μ_9, h_10, hf⟩ := b2_some hf
      refine ci_call S hK hP hD hZ hS hA (tX4_ratio l D d z o a K v_7 (μ_2.2.2 0 (0 : Int32).toNatClampNeg) μ_2 _ _ h_10) (cwV 2 hts (lw_V q2007 q2009 qs79 q101 q2010) rfl rfl rfl (by decide +kernel) ⟨Nat.le_of_ble_eq_true rfl, Nat.le_of_ble_eq_true rfl⟩) (ci := 0) (q0 := 0) rfl rfl rfl hl.1 rfl (Nat.le_of_ble_eq_true rfl) ⟨Nat.le_of_ble_eq_true rfl, Nat.le_of_ble_eq_true rfl⟩ dX4_tuneFromMemory_55 ?_
      clear hP hD hS
      intro H locs hP hD hS
      clear h_10
      refine lv_aload_n hx hb dX4_tuneFromMemory_58 rfl (lv_at hl 2 rfl) ?_
      refine lv_iconst (v := 0) hx hb dX4_tuneFromMemory_59 (by decide) ?_
      refine lv_aload_n hx hb dX4_tuneFromMemory_60 rfl (lv_at hl 2 rfl) ?_
      refine m_get S hK hP 0 (by decide) q1600 rfl dX4_tuneFromMemory_61 ?_
      refine lv_iconst (v := 0) hx hb dX4_tuneFromMemory_64 (by decide) ?_
      obtain ⟨g_12, hf⟩ := ga_some hf
      refine m_ild S hK hP 0 1 rfl g_12 dX4_tuneFromMemory_65 ?_
      clear g_12
      obtain ⟨r_15, μ_13, h_14, hf⟩ := b2_some hf
      refine ci_call S hK hP hD hZ hS hA (tX4_ratio l D d z o a K (0 : Int32) (μ_9.2.2 0 (0 : Int32).toNatClampNeg) μ_9 _ _ h_14) (cwV 2 hts (lw_V q2007 q2009 qs79 q101 q2010) rfl rfl rfl (by decide +kernel) ⟨Nat.le_of_ble_eq_true rfl, Nat.le_of_ble_eq_true rfl⟩) (ci := 0) (q0 := 0) rfl rfl rfl hl.1 rfl (Nat.le_of_ble_eq_true rfl) ⟨Nat.le_of_ble_eq_true rfl, Nat.le_of_ble_eq_true rfl⟩ dX4_tuneFromMemory_66 ?_
      clear hP hD hS
      intro H locs hP hD hS
      clear h_14
      refine lv_icmp_gt (tgt := 76) hx hb dX4_tuneFromMemory_69 (by decide) (fun c_16 => ?_) (fun c_16 => ?_)
      · replace hf := it_t hf c_16
        clear c_16
        refine lv_iconst (v := 0) hx hb dX4_tuneFromMemory_76 (by decide) ?_
        exact L77 (0 : Int32) v_7 μ_13 _ _ _ hf hP hD hS (lv_sub hl [2, 0] rfl)
      · replace hf := it_f hf c_16
        clear c_16
        refine lv_iconst (v := 1) hx hb dX4_tuneFromMemory_72 (by decide) ?_
        refine lv_goto (tgt := 77) hx hb dX4_tuneFromMemory_73 (by decide) ?_
        exact L77 (1 : Int32) v_7 μ_13 _ _ _ hf hP hD hS (lv_sub hl [2, 0] rfl)
    · replace hf := it_f hf c_5
      clear c_5
      refine lv_aload_n hx hb dX4_tuneFromMemory_18 rfl (lv_at hl 1 rfl) ?_
      refine lv_iconst (v := 0) hx hb dX4_tuneFromMemory_19 (by decide) ?_
      refine m_putI S hK hP hD hS 44 (by decide) q1644 rfl rfl rfl rfl rfl dX4_tuneFromMemory_20 ?_
      clear hP hD hS
      intro μ_24 e_ H locs hP hD hS
      replace hf := nm_some hf μ_24 e_
      clear e_
      refine lv_aload_n hx hb dX4_tuneFromMemory_23 rfl (lv_at hl 1 rfl) ?_
      refine lv_iconst (v := 1) hx hb dX4_tuneFromMemory_24 (by decide) ?_
      refine lv_iconst (v := 0) hx hb dX4_tuneFromMemory_25 (by decide) ?_
      obtain ⟨μ_25, h_26, hf⟩ := b1_some hf
      refine cv_call S hK hP hD hZ hS hA (tX4_link l D d z o a K (1 : Int32) (0 : Int32) μ_24 _ h_26) (cwV 2 hts (lw_V q2113 q2115 qs88 q101 q2116) rfl rfl rfl (by decide +kernel) ⟨Nat.le_of_ble_eq_true rfl, Nat.le_of_ble_eq_true rfl⟩) (ci := 0) (q0 := 0) rfl rfl rfl hl.1 rfl (Nat.le_of_ble_eq_true rfl) ⟨Nat.le_of_ble_eq_true rfl, Nat.le_of_ble_eq_true rfl⟩ dX4_tuneFromMemory_26 ?_
      clear hP hD hS
      intro H locs hP hD hS
      clear h_26
      refine lv_aload_n hx hb dX4_tuneFromMemory_29 rfl (lv_at hl 1 rfl) ?_
      obtain ⟨μ_27, h_28, hf⟩ := b1_some hf
      refine cv_call S hK hP hD hZ hS hA (tX4_linkMissing l D d z o a K μ_25 _ h_28) (cwV 0 hts (lw_V q2132 q2134 qs90 q101 q2135) rfl rfl rfl (by decide +kernel) ⟨Nat.le_of_ble_eq_true rfl, Nat.le_of_ble_eq_true rfl⟩) (ci := 0) (q0 := 0) rfl rfl rfl hl.1 rfl (Nat.le_of_ble_eq_true rfl) ⟨Nat.le_of_ble_eq_true rfl, Nat.le_of_ble_eq_true rfl⟩ dX4_tuneFromMemory_30 ?_
      clear hP hD hS
      intro H locs hP hD hS
      clear h_28
      refine lv_bipush (v := -2) hx hb dX4_tuneFromMemory_33 (by decide) ?_
      exact hret _ _ _ _ _ _ hf dX4_tuneFromMemory_35 hP hD hS
  · replace hf := it_t hf c_1
    clear c_1
    refine lv_iconst (v := -1) hx hb dX4_tuneFromMemory_7 (by decide) ?_
    exact hret _ _ _ _ _ _ hf dX4_tuneFromMemory_8 hP hD hS
