/-! leaves: statics, Impedance, Setting, Tuner -/
set_option maxRecDepth 100000
def fX0_isIn (K : Nat) (p0 : Int32) (p1 : Int32) (p2 : Int32) : Option Bool :=
  if p0 < p1 then
    some false
  else
    if p2 < p0 then
      some false
    else
      some true
set_option maxHeartbeats 4000000 in
set_option maxRecDepth 100000 in
theorem tX0_isIn (l : Launch) (K : Nat) (p0 : Int32) (p1 : Int32) (p2 : Int32) (r : Bool) (hf : fX0_isIn K p0 p1 p2 = some r) : SI l yX0_isIn (ws_ yX0_isIn cX0_isIn 3 (Option.some Jvm.ClassFile.FieldType.boolean)) 0 0 [.int p0, .int p1, .int p2] (bi r) := by
  refine sZ_of (own := RX0) rfl (by decide) (Nat.le_of_ble_eq_true rfl) ?_
  intro p e s m args below meth c Q ls S hl hret
  have hx := S.1
  have hb := S.2.1
  have hts := S.2.2.2.2
  have hl : lv_has ls 3 [(0, .int p0), (1, .int p1), (2, .int p2)] := hl
  unfold fX0_isIn at hf
  refine lv_iload_n hx hb dX0_isIn_0 rfl (lv_at hl 0 rfl) ?_
  refine lv_iload_n hx hb dX0_isIn_1 rfl (lv_at hl 1 rfl) ?_
  refine lv_icmp_lt (tgt := 14) hx hb dX0_isIn_2 (by decide) (fun c_1 => ?_) (fun c_1 => ?_)
  · replace hf := it_t hf c_1
    clear c_1
    refine lv_iconst (v := 0) hx hb dX0_isIn_14 (by decide) ?_
    exact hret _ _ _ hf dX0_isIn_15
  · replace hf := it_f hf c_1
    clear c_1
    refine lv_iload_n hx hb dX0_isIn_5 rfl (lv_at hl 0 rfl) ?_
    refine lv_iload_n hx hb dX0_isIn_6 rfl (lv_at hl 2 rfl) ?_
    refine lv_icmp_gt (tgt := 14) hx hb dX0_isIn_7 (by decide) (fun c_2 => ?_) (fun c_2 => ?_)
    · replace hf := it_t hf c_2
      clear c_2
      refine lv_iconst (v := 0) hx hb dX0_isIn_14 (by decide) ?_
      exact hret _ _ _ hf dX0_isIn_15
    · replace hf := it_f hf c_2
      clear c_2
      refine lv_iconst (v := 1) hx hb dX0_isIn_10 (by decide) ?_
      refine lv_goto (tgt := 15) hx hb dX0_isIn_11 (by decide) ?_
      exact hret _ _ _ hf dX0_isIn_15
def fX0_root_L7 (K : Nat) : Nat → Int64 → Int64 → Int64 → Option Int64
  | 0, _, _, _ => none
  | n + 1, x7_0, x7_2, x7_4 =>
    if x7_4 ≤ x7_2 then
      some x7_2
    else
      nm (((x7_2 + x7_4) + (1 : Int64)) / (2 : Int64)) fun v_2 =>
      if x7_0 < (v_2 * v_2) then
        nm (v_2 - (1 : Int64)) fun v_4 =>
        fX0_root_L7 K n x7_0 x7_2 v_4
      else
        fX0_root_L7 K n x7_0 v_2 x7_4
def fX0_root (K : Nat) (p0 : Int64) : Option Int64 :=
  fX0_root_L7 K K p0 (0 : Int64) (3037000499 : Int64)
set_option maxHeartbeats 4000000 in
set_option maxRecDepth 100000 in
theorem tX0_root (l : Launch) (K : Nat) (p0 : Int64) (r : Int64) (hf : fX0_root K p0 = some r) : SJ l yX0_root (ws_ yX0_root cX0_root 8 (Option.some Jvm.ClassFile.FieldType.long)) 0 0 [.long p0] r := by
  refine sJ_of (own := RX0) rfl (by decide) (Nat.le_of_ble_eq_true rfl) ?_
  intro p e s m args below meth c Q ls S hl hret
  have hx := S.1
  have hb := S.2.1
  have hts := S.2.2.2.2
  have hl : lv_has ls 8 [(0, .long p0)] := hl
  have L7 : ∀ (n : Nat) (x7_0 : Int64) (x7_2 : Int64) (x7_4 : Int64) (ls : Array Slot), fX0_root_L7 K n x7_0 x7_2 x7_4 = some r → lv_has ls 8 [(0, .long x7_0), (2, .long x7_2), (4, .long x7_4)] → W p l e (rmc 0 0 0 0) s m args below meth c s.heap [] 0 0 Q (F0 m 7 ls []) := by
    intro n
    induction n with
    | zero =>
      intro x7_0 x7_2 x7_4 ls hf hl
      rw [fX0_root_L7] at hf
      cases hf
    | succ n ih =>
      intro x7_0 x7_2 x7_4 ls hf hl
      rw [fX0_root_L7] at hf
      refine lv_lload_n hx hb dX0_root_7 rfl (lv_at hl 1 rfl) ?_
      refine lv_lload hx hb dX0_root_8 (lv_at hl 2 rfl) ?_
      refine g_lcmp_ge (tgt := 51) hx hb dX0_root_10 dX0_root_11 (by decide) (fun c_1 => ?_) (fun c_1 => ?_)
      · replace hf := it_t hf c_1
        clear c_1
        refine lv_lload_n hx hb dX0_root_51 rfl (lv_at hl 1 rfl) ?_
        exact hret _ _ _ hf dX0_root_52
      · replace hf := it_f hf c_1
        clear c_1
        refine lv_lload_n hx hb dX0_root_14 rfl (lv_at hl 1 rfl) ?_
        refine lv_lload hx hb dX0_root_15 (lv_at hl 2 rfl) ?_
        refine lv_ladd hx hb dX0_root_17 ?_
        refine lv_lconst (v := 1) hx hb dX0_root_18 (by decide) ?_
        refine lv_ladd hx hb dX0_root_19 ?_
        refine lv_ldc2 hx hb S.2.2.2.1 (hts _ q1132) dX0_root_20 ?_
        refine lv_ldiv hx hb dX0_root_23 (by decide) ?_
        refine lv_topl (fun v_2 e_ => ?_)
        replace hf := nm_some hf v_2 e_
        clear e_
        refine lv_lstore (lv' := [(6, .long v_2), (0, .long x7_0), (2, .long x7_2), (4, .long x7_4)]) hx hb dX0_root_24 hl (by decide) rfl (fun ls hl => ?_)
        refine lv_lload hx hb dX0_root_26 (lv_at hl 0 rfl) ?_
        refine lv_lload hx hb dX0_root_28 (lv_at hl 0 rfl) ?_
        refine lv_lmul hx hb dX0_root_30 ?_
        refine lv_lload_n hx hb dX0_root_31 rfl (lv_at hl 1 rfl) ?_
        refine g_lcmp_gt (tgt := 42) hx hb dX0_root_32 dX0_root_33 (by decide) (fun c_3 => ?_) (fun c_3 => ?_)
        · replace hf := it_t hf c_3
          clear c_3
          refine lv_lload hx hb dX0_root_42 (lv_at hl 0 rfl) ?_
          refine lv_lconst (v := 1) hx hb dX0_root_44 (by decide) ?_
          refine lv_lsub hx hb dX0_root_45 ?_
          refine lv_topl (fun v_4 e_ => ?_)
          replace hf := nm_some hf v_4 e_
          clear e_
          refine lv_lstore (lv' := [(4, .long v_4), (6, .long v_2), (0, .long x7_0), (2, .long x7_2)]) hx hb dX0_root_46 hl (by decide) rfl (fun ls hl => ?_)
          refine lv_goto (tgt := 7) hx hb dX0_root_48 (by decide) ?_
          exact ih x7_0 x7_2 v_4 _ hf (lv_sub hl [2, 3, 0] rfl)
        · replace hf := it_f hf c_3
          clear c_3
          refine lv_lload hx hb dX0_root_36 (lv_at hl 0 rfl) ?_
          refine lv_lstore_n (lv' := [(2, .long v_2), (6, .long v_2), (0, .long x7_0), (4, .long x7_4)]) hx hb dX0_root_38 rfl hl (by decide) rfl (fun ls hl => ?_)
          refine lv_goto (tgt := 48) hx hb dX0_root_39 (by decide) ?_
          refine lv_goto (tgt := 7) hx hb dX0_root_48 (by decide) ?_
          exact ih x7_0 v_2 x7_4 _ hf (lv_sub hl [2, 0, 3] rfl)
  unfold fX0_root at hf
  refine lv_lconst (v := 0) hx hb dX0_root_0 (by decide) ?_
  refine lv_lstore_n (lv' := [(2, .long (0 : Int64)), (0, .long p0)]) hx hb dX0_root_1 rfl hl (by decide) rfl (fun ls hl => ?_)
  refine lv_ldc2 hx hb S.2.2.2.1 (hts _ q1131) dX0_root_2 ?_
  refine lv_lstore (lv' := [(4, .long (3037000499 : Int64)), (2, .long (0 : Int64)), (0, .long p0)]) hx hb dX0_root_5 hl (by decide) rfl (fun ls hl => ?_)
  exact L7 K p0 (0 : Int64) (3037000499 : Int64) _ hf (lv_sub hl [2, 1, 0] rfl)
def fX0_isFrequency (K : Nat) (p0 : Int32) : Option Bool :=
  b1 (fX0_isIn K p0 (1500 : Int32) (30000 : Int32)) fun r_1 =>
  some r_1
set_option maxHeartbeats 4000000 in
set_option maxRecDepth 100000 in
theorem tX0_isFrequency (l : Launch) (K : Nat) (p0 : Int32) (r : Bool) (hf : fX0_isFrequency K p0 = some r) : SI l yX0_isFrequency (ws_ yX0_isFrequency cX0_isFrequency 1 (Option.some Jvm.ClassFile.FieldType.boolean)) 1 22 [.int p0] (bi r) := by
  refine sZ_of (own := RX0) rfl (by decide) (Nat.le_of_ble_eq_true rfl) ?_
  intro p e s m args below meth c Q ls S hl hret
  have hx := S.1
  have hb := S.2.1
  have hts := S.2.2.2.2
  have hl : lv_has ls 1 [(0, .int p0)] := hl
  unfold fX0_isFrequency at hf
  refine lv_iload_n hx hb dX0_isFrequency_0 rfl (lv_at hl 0 rfl) ?_
  refine lv_sipush (v := 1500) hx hb dX0_isFrequency_1 (by decide) ?_
  refine lv_sipush (v := 30000) hx hb dX0_isFrequency_4 (by decide) ?_
  obtain ⟨r_1, h_2, hf⟩ := b1_some hf
  refine si_call S (tX0_isIn l K p0 (1500 : Int32) (30000 : Int32) _ h_2) (va_cwS 3 hts (lw_S q331 q332 q94 q333) rfl rfl rfl (by decide +kernel) ⟨(Nat.le_of_ble_eq_true rfl), (Nat.le_of_ble_eq_true rfl)⟩) rfl hl.1 rfl (Nat.le_of_ble_eq_true rfl) ⟨(Nat.le_of_ble_eq_true rfl), (Nat.le_of_ble_eq_true rfl)⟩ dX0_isFrequency_7 ?_
  clear h_2
  exact hret _ _ _ hf dX0_isFrequency_10
def fX0_isSetting (K : Nat) (p0 : Int32) : Option Bool :=
  b1 (fX0_isIn K p0 (0 : Int32) (63 : Int32)) fun r_1 =>
  some r_1
set_option maxHeartbeats 4000000 in
set_option maxRecDepth 100000 in
theorem tX0_isSetting (l : Launch) (K : Nat) (p0 : Int32) (r : Bool) (hf : fX0_isSetting K p0 = some r) : SI l yX0_isSetting (ws_ yX0_isSetting cX0_isSetting 1 (Option.some Jvm.ClassFile.FieldType.boolean)) 1 22 [.int p0] (bi r) := by
  refine sZ_of (own := RX0) rfl (by decide) (Nat.le_of_ble_eq_true rfl) ?_
  intro p e s m args below meth c Q ls S hl hret
  have hx := S.1
  have hb := S.2.1
  have hts := S.2.2.2.2
  have hl : lv_has ls 1 [(0, .int p0)] := hl
  unfold fX0_isSetting at hf
  refine lv_iload_n hx hb dX0_isSetting_0 rfl (lv_at hl 0 rfl) ?_
  refine lv_iconst (v := 0) hx hb dX0_isSetting_1 (by decide) ?_
  refine lv_bipush (v := 63) hx hb dX0_isSetting_2 (by decide) ?_
  obtain ⟨r_1, h_2, hf⟩ := b1_some hf
  refine si_call S (tX0_isIn l K p0 (0 : Int32) (63 : Int32) _ h_2) (va_cwS 3 hts (lw_S q331 q332 q94 q333) rfl rfl rfl (by decide +kernel) ⟨(Nat.le_of_ble_eq_true rfl), (Nat.le_of_ble_eq_true rfl)⟩) rfl hl.1 rfl (Nat.le_of_ble_eq_true rfl) ⟨(Nat.le_of_ble_eq_true rfl), (Nat.le_of_ble_eq_true rfl)⟩ dX0_isSetting_4 ?_
  clear h_2
  exact hret _ _ _ hf dX0_isSetting_7
def fX1_limited (K : Nat) (p0 : Int64) : Option Int64 :=
  nm (if p0 < (1000000000 : Int64) then p0 else (1000000000 : Int64)) fun v_1 =>
  nm (if v_1 < (-1000000000 : Int64) then (-1000000000 : Int64) else v_1) fun v_2 =>
  some v_2
set_option maxHeartbeats 4000000 in
set_option maxRecDepth 100000 in
theorem tX1_limited (l : Launch) (K : Nat) (p0 : Int64) (r : Int64) (hf : fX1_limited K p0 = some r) : SJ l yX1_limited (ws_ yX1_limited cX1_limited 2 (Option.some Jvm.ClassFile.FieldType.long)) 1 17 [.long p0] r := by
  refine sJ_of (own := RX1) rfl (by decide) (Nat.le_of_ble_eq_true rfl) ?_
  intro p e s m args below meth c Q ls S hl hret
  have hx := S.1
  have hb := S.2.1
  have hts := S.2.2.2.2
  have hl : lv_has ls 2 [(0, .long p0)] := hl
  unfold fX1_limited at hf
  refine lv_ldc2 hx hb S.2.2.2.1 (hts _ q160) dX1_limited_0 ?_
  refine lv_ldc2 hx hb S.2.2.2.1 (hts _ q152) dX1_limited_3 ?_
  refine lv_lload_n hx hb dX1_limited_6 rfl (lv_at hl 0 rfl) ?_
  refine va_mmin_long hx hb (S.2.2.1.trans hl.1.symm) S.2.2.2.1 (hts _ q161) (hts _ q162) (hts _ q96) (hts _ q163) (Nat.le_of_ble_eq_true rfl) (Nat.le_of_ble_eq_true rfl) (Nat.le_of_ble_eq_true rfl) (Nat.le_of_ble_eq_true rfl) dX1_limited_7 ?_
  refine lv_topl (fun v_1 e_ => ?_)
  replace hf := nm_some hf v_1 e_
  clear e_
  refine va_mmax_long hx hb (S.2.2.1.trans hl.1.symm) S.2.2.2.1 (hts _ q164) (hts _ q165) (hts _ q96) (hts _ q166) (Nat.le_of_ble_eq_true rfl) (Nat.le_of_ble_eq_true rfl) (Nat.le_of_ble_eq_true rfl) (Nat.le_of_ble_eq_true rfl) dX1_limited_10 ?_
  refine lv_topl (fun v_2 e_ => ?_)
  replace hf := nm_some hf v_2 e_
  clear e_
  exact hret _ _ _ hf dX1_limited_13
def fX1_init (K : Nat) (μ : Int64 × Int64) : Option (Int64 × Int64) :=
  some μ
set_option maxHeartbeats 4000000 in
set_option maxRecDepth 100000 in
theorem tX1_init (l : Launch) (D : va_G) (d : Nat → ClassId) (z : ZT) (o : Nat) (K : Nat) (μ : Int64 × Int64) (μ' : Int64 × Int64) (hf : fX1_init K μ = some μ') : CV l yX1_init (ws_ yX1_init cX1_init 1 (Option.none : Option Jvm.ClassFile.FieldType)) (rmc 1 0 0 12) D d z [.ref o] (IP o μ) (IP o μ') := by
  refine CV.of2 (own := RX1) rfl (by decide) (Nat.le_of_ble_eq_true rfl) ?_
  intro p e s m args below meth c A Q ls S hin hK hP hD hZ hS hA hl hret0
  have hret : ∀ (μx : Int64 × Int64) (H : Heap) (locs : List Loc) (pc : Nat) (ls' : Array Slot), some μx = some μ' → decode cX1_init pc = .ok (.return_, 1) → va_P D CL (IP o μx) H → va_D A (IP o μx) → va_S A s.heap H locs → W p l e (rmc 1 0 0 12) s m args below meth c H locs 0 0 Q (F0 m pc ls' []) := by
    intro μx H locs pc ls' h9 hdg hP hD hS
    obtain rfl := so_1 h9
    exact hret0 H locs pc ls' hdg hP hD hS
  have hx := S.1
  have hb := S.2.1
  have hts := S.2.2.2.2
  have hl : lv_has ls 1 [(0, .ref o)] := hl
  unfold fX1_init at hf
  refine lv_aload_n hx hb dX1_init_0 rfl (lv_at hl 0 rfl) ?_
  refine W.objInit hx hb S.2.2.2.1 (hts _ q218) (hts _ q136) (hts _ q137) rfl (by rw [S.2.2.1]; exact hl.1) rfl dX1_init_1 (Nat.le_of_ble_eq_true rfl) (Nat.le_of_ble_eq_true rfl) ?_
  refine W.eq (g2 := F0 m 4 ls []) rfl ?_
  refine W.widen (k := 0) (n := 0) (Nat.le_of_ble_eq_true rfl) (Nat.le_of_ble_eq_true rfl) ?_
  exact hret _ _ _ _ _ hf dX1_init_4 hP hD hS
def fX1_set (K : Nat) (p0 : Int64) (p1 : Int64) (μ : Int64 × Int64) : Option (Int64 × Int64) :=
  some (p0, p1)
set_option maxHeartbeats 4000000 in
set_option maxRecDepth 100000 in
theorem tX1_set (l : Launch) (D : va_G) (d : Nat → ClassId) (z : ZT) (o : Nat) (K : Nat) (p0 : Int64) (p1 : Int64) (μ : Int64 × Int64) (μ' : Int64 × Int64) (hf : fX1_set K p0 p1 μ = some μ') : CV l yX1_set (ws_ yX1_set cX1_set 5 (Option.none : Option Jvm.ClassFile.FieldType)) (rmc 0 0 0 0) D d z [.ref o, .long p0, .long p1] (IP o μ) (IP o μ') := by
  refine CV.of2 (own := RX1) rfl (by decide) (Nat.le_of_ble_eq_true rfl) ?_
  intro p e s m args below meth c A Q ls S hin hK hP hD hZ hS hA hl hret0
  have hret : ∀ (μx : Int64 × Int64) (H : Heap) (locs : List Loc) (pc : Nat) (ls' : Array Slot), some μx = some μ' → decode cX1_set pc = .ok (.return_, 1) → va_P D CL (IP o μx) H → va_D A (IP o μx) → va_S A s.heap H locs → W p l e (rmc 0 0 0 0) s m args below meth c H locs 0 0 Q (F0 m pc ls' []) := by
    intro μx H locs pc ls' h9 hdg hP hD hS
    obtain rfl := so_1 h9
    exact hret0 H locs pc ls' hdg hP hD hS
  have hx := S.1
  have hb := S.2.1
  have hts := S.2.2.2.2
  have hl : lv_has ls 5 [(0, .ref o), (1, .long p0), (3, .long p1)] := hl
  unfold fX1_set at hf
  refine lv_aload_n hx hb dX1_set_0 rfl (lv_at hl 0 rfl) ?_
  refine lv_lload_n hx hb dX1_set_1 rfl (lv_at hl 1 rfl) ?_
  refine g_put hx hb hts S.2.2.2.1 hK hP hD hS in_X1 tyX1 tyX1_ok nmX1 0 rfl rfl 0 (by decide) q219 (fun _ h9 => h9) rfl (v := .long p0) rfl rfl rfl (Nat.le_of_ble_eq_true rfl) (w' := IP o (p0, μ.2)) rfl dX1_set_2 ?_
  clear hP hD hS
  intro H locs hP hD hS
  refine lv_aload_n hx hb dX1_set_5 rfl (lv_at hl 0 rfl) ?_
  refine lv_lload_n hx hb dX1_set_6 rfl (lv_at hl 2 rfl) ?_
  refine g_put hx hb hts S.2.2.2.1 hK hP hD hS in_X1 tyX1 tyX1_ok nmX1 0 rfl rfl 1 (by decide) q222 (fun _ h9 => h9) rfl (v := .long p1) rfl rfl rfl (Nat.le_of_ble_eq_true rfl) (w' := IP o (p0, p1)) rfl dX1_set_7 ?_
  clear hP hD hS
  intro H locs hP hD hS
  refine W.widen (k := 0) (n := 0) (Nat.le_of_ble_eq_true rfl) (Nat.le_of_ble_eq_true rfl) ?_
  exact hret _ _ _ _ _ hf dX1_set_10 hP hD hS
def fX1_addInSeries (K : Nat) (p0 : Int64) (p1 : Int64) (μ : Int64 × Int64) : Option (Int64 × Int64) :=
  some (μ.1 + p0, μ.2 + p1)
set_option maxHeartbeats 4000000 in
set_option maxRecDepth 100000 in
theorem tX1_addInSeries (l : Launch) (D : va_G) (d : Nat → ClassId) (z : ZT) (o : Nat) (K : Nat) (p0 : Int64) (p1 : Int64) (μ : Int64 × Int64) (μ' : Int64 × Int64) (hf : fX1_addInSeries K p0 p1 μ = some μ') : CV l yX1_addInSeries (ws_ yX1_addInSeries cX1_addInSeries 5 (Option.none : Option Jvm.ClassFile.FieldType)) (rmc 0 0 0 0) D d z [.ref o, .long p0, .long p1] (IP o μ) (IP o μ') := by
  refine CV.of2 (own := RX1) rfl (by decide) (Nat.le_of_ble_eq_true rfl) ?_
  intro p e s m args below meth c A Q ls S hin hK hP hD hZ hS hA hl hret0
  have hret : ∀ (μx : Int64 × Int64) (H : Heap) (locs : List Loc) (pc : Nat) (ls' : Array Slot), some μx = some μ' → decode cX1_addInSeries pc = .ok (.return_, 1) → va_P D CL (IP o μx) H → va_D A (IP o μx) → va_S A s.heap H locs → W p l e (rmc 0 0 0 0) s m args below meth c H locs 0 0 Q (F0 m pc ls' []) := by
    intro μx H locs pc ls' h9 hdg hP hD hS
    obtain rfl := so_1 h9
    exact hret0 H locs pc ls' hdg hP hD hS
  have hx := S.1
  have hb := S.2.1
  have hts := S.2.2.2.2
  have hl : lv_has ls 5 [(0, .ref o), (1, .long p0), (3, .long p1)] := hl
  unfold fX1_addInSeries at hf
  refine lv_aload_n hx hb dX1_addInSeries_0 rfl (lv_at hl 0 rfl) ?_
  refine lv_dup hx hb dX1_addInSeries_1 rfl ?_
  refine g_get hx hb hts S.2.2.2.1 hK hP in_X1 0 rfl rfl 0 (by decide) q219 (fun _ h9 => h9) (v := .long μ.1) rfl dX1_addInSeries_2 ?_
  refine lv_lload_n hx hb dX1_addInSeries_5 rfl (lv_at hl 1 rfl) ?_
  refine lv_ladd hx hb dX1_addInSeries_6 ?_
  refine g_put hx hb hts S.2.2.2.1 hK hP hD hS in_X1 tyX1 tyX1_ok nmX1 0 rfl rfl 0 (by decide) q219 (fun _ h9 => h9) rfl (v := .long (μ.1 + p0)) rfl rfl rfl (Nat.le_of_ble_eq_true rfl) (w' := IP o (μ.1 + p0, μ.2)) rfl dX1_addInSeries_7 ?_
  clear hP hD hS
  intro H locs hP hD hS
  refine lv_aload_n hx hb dX1_addInSeries_10 rfl (lv_at hl 0 rfl) ?_
  refine lv_dup hx hb dX1_addInSeries_11 rfl ?_
  refine g_get hx hb hts S.2.2.2.1 hK hP in_X1 0 rfl rfl 1 (by decide) q222 (fun _ h9 => h9) (v := .long μ.2) rfl dX1_addInSeries_12 ?_
  refine lv_lload_n hx hb dX1_addInSeries_15 rfl (lv_at hl 2 rfl) ?_
  refine lv_ladd hx hb dX1_addInSeries_16 ?_
  refine g_put hx hb hts S.2.2.2.1 hK hP hD hS in_X1 tyX1 tyX1_ok nmX1 0 rfl rfl 1 (by decide) q222 (fun _ h9 => h9) rfl (v := .long (μ.2 + p1)) rfl rfl rfl (Nat.le_of_ble_eq_true rfl) (w' := IP o (μ.1 + p0, μ.2 + p1)) rfl dX1_addInSeries_17 ?_
  clear hP hD hS
  intro H locs hP hD hS
  refine W.widen (k := 0) (n := 0) (Nat.le_of_ble_eq_true rfl) (Nat.le_of_ble_eq_true rfl) ?_
  exact hret _ _ _ _ _ hf dX1_addInSeries_20 hP hD hS
def fX1_square (K : Nat) (μ : Int64 × Int64) : Option (Int64 × Int64 × Int64) :=
  some ((μ.1 * μ.1) + (μ.2 * μ.2), μ)
set_option maxHeartbeats 4000000 in
set_option maxRecDepth 100000 in
theorem tX1_square (l : Launch) (D : va_G) (d : Nat → ClassId) (z : ZT) (o : Nat) (K : Nat) (μ : Int64 × Int64) (r : Int64) (μ' : Int64 × Int64) (hf : fX1_square K μ = some (r, μ')) : CJ l yX1_square (ws_ yX1_square cX1_square 1 (Option.some Jvm.ClassFile.FieldType.long)) (rmc 0 0 0 0) D d z [.ref o] (IP o μ) r (IP o μ') := by
  refine CJ.of2 (own := RX1) rfl (by decide) (Nat.le_of_ble_eq_true rfl) ?_
  intro p e s m args below meth c A Q ls S hin hK hP hD hZ hS hA hl hret0
  have hret : ∀ (x : Int64) (μx : Int64 × Int64) (H : Heap) (locs : List Loc) (pc : Nat) (ls' : Array Slot), some (x, μx) = some (r, μ') → decode cX1_square pc = .ok (.lreturn, 1) → va_P D CL (IP o μx) H → va_D A (IP o μx) → va_S A s.heap H locs → W p l e (rmc 0 0 0 0) s m args below meth c H locs 0 0 Q (F0 m pc ls' [.long x]) := by
    intro x μx H locs pc ls' h9 hdg hP hD hS
    obtain ⟨rfl, rfl⟩ := so_2 h9
    exact hret0 H locs pc ls' hdg hP hD hS
  have hx := S.1
  have hb := S.2.1
  have hts := S.2.2.2.2
  have hl : lv_has ls 1 [(0, .ref o)] := hl
  unfold fX1_square at hf
  refine lv_aload_n hx hb dX1_square_0 rfl (lv_at hl 0 rfl) ?_
  refine g_get hx hb hts S.2.2.2.1 hK hP in_X1 0 rfl rfl 0 (by decide) q219 (fun _ h9 => h9) (v := .long μ.1) rfl dX1_square_1 ?_
  refine lv_aload_n hx hb dX1_square_4 rfl (lv_at hl 0 rfl) ?_
  refine g_get hx hb hts S.2.2.2.1 hK hP in_X1 0 rfl rfl 0 (by decide) q219 (fun _ h9 => h9) (v := .long μ.1) rfl dX1_square_5 ?_
  refine lv_lmul hx hb dX1_square_8 ?_
  refine lv_aload_n hx hb dX1_square_9 rfl (lv_at hl 0 rfl) ?_
  refine g_get hx hb hts S.2.2.2.1 hK hP in_X1 0 rfl rfl 1 (by decide) q222 (fun _ h9 => h9) (v := .long μ.2) rfl dX1_square_10 ?_
  refine lv_aload_n hx hb dX1_square_13 rfl (lv_at hl 0 rfl) ?_
  refine g_get hx hb hts S.2.2.2.1 hK hP in_X1 0 rfl rfl 1 (by decide) q222 (fun _ h9 => h9) (v := .long μ.2) rfl dX1_square_14 ?_
  refine lv_lmul hx hb dX1_square_17 ?_
  refine lv_ladd hx hb dX1_square_18 ?_
  refine W.widen (k := 0) (n := 0) (Nat.le_of_ble_eq_true rfl) (Nat.le_of_ble_eq_true rfl) ?_
  exact hret _ _ _ _ _ _ hf dX1_square_19 hP hD hS
def fX1_addInParallel (K : Nat) (p0 : Int64) (μ : Int64 × Int64) : Option (Int64 × Int64) :=
  b2 (fX1_square K μ) fun r_2 ξ_3 =>
  ga (¬ r_2 = 0) <|
  nm ((ξ_3.1 * (10000000000 : Int64)) / r_2) fun v_5 =>
  ga (¬ r_2 = 0) <|
  nm ((((-ξ_3.2) * (10000000000 : Int64)) / r_2) + p0) fun v_7 =>
  nm ((v_5 * v_5) + (v_7 * v_7)) fun v_8 =>
  if v_8 = (0 : Int64) then
    b1 (fX1_set K (1000000000 : Int64) (0 : Int64) ξ_3) fun ξ_19 =>
    some ξ_19
  else
    ga (¬ v_8 = 0) <|
    b1 (fX1_limited K ((v_5 * (10000000000 : Int64)) / v_8)) fun r_11 =>
    ga (¬ v_8 = 0) <|
    b1 (fX1_limited K (((-v_7) * (10000000000 : Int64)) / v_8)) fun r_14 =>
    b1 (fX1_set K r_11 r_14 ξ_3) fun ξ_17 =>
    some ξ_17
set_option maxHeartbeats 4000000 in
set_option maxRecDepth 100000 in
theorem tX1_addInParallel (l : Launch) (D : va_G) (d : Nat → ClassId) (z : ZT) (o : Nat) (K : Nat) (p0 : Int64) (μ : Int64 × Int64) (μ' : Int64 × Int64) (hf : fX1_addInParallel K p0 μ = some μ') : CV l yX1_addInParallel (ws_ yX1_addInParallel cX1_addInParallel 11 (Option.none : Option Jvm.ClassFile.FieldType)) (rmc 2 0 0 38) D d z [.ref o, .long p0] (IP o μ) (IP o μ') := by
  refine CV.of2 (own := RX1) rfl (by decide) (Nat.le_of_ble_eq_true rfl) ?_
  intro p e s m args below meth c A Q ls S hin hK hP hD hZ hS hA hl hret0
  have hret : ∀ (μx : Int64 × Int64) (H : Heap) (locs : List Loc) (pc : Nat) (ls' : Array Slot), some μx = some μ' → decode cX1_addInParallel pc = .ok (.return_, 1) → va_P D CL (IP o μx) H → va_D A (IP o μx) → va_S A s.heap H locs → W p l e (rmc 2 0 0 38) s m args below meth c H locs 0 0 Q (F0 m pc ls' []) := by
    intro μx H locs pc ls' h9 hdg hP hD hS
    obtain rfl := so_1 h9
    exact hret0 H locs pc ls' hdg hP hD hS
  have hx := S.1
  have hb := S.2.1
  have hts := S.2.2.2.2
  have hl : lv_has ls 11 [(0, .ref o), (1, .long p0)] := hl
  unfold fX1_addInParallel at hf
  refine lv_aload_n hx hb dX1_addInParallel_0 rfl (lv_at hl 0 rfl) ?_
  obtain ⟨r_2, ξ_3, h_1, hf⟩ := b2_some hf
  refine runW_j (va_runV (As := []) (rest := []) S (tX1_square l D d z o K μ r_2 ξ_3 h_1 _) (cwV 0 hts (lw_V q146 q148 qs0 q95 q150) rfl rfl rfl (by decide +kernel) ⟨(Nat.le_of_ble_eq_true rfl), (Nat.le_of_ble_eq_true rfl)⟩) ⟨Pw.blind, (va_recv hK.1 hP (ci := 2) (q0 := 0) rfl rfl), fun U hU hW => Pw.at hK hP hD hZ hS hA hU hW⟩ rfl rfl hl.1 rfl (lv_room (Nat.le_of_ble_eq_true rfl)) dX1_addInParallel_1 ⟨(Nat.le_of_ble_eq_true rfl), (Nat.le_of_ble_eq_true rfl)⟩) hP hD hS hA ?_
  clear hP hD hS
  intro H locs hP hD hS
  clear h_1
  refine lv_lstore_n (lv' := [(3, .long r_2), (0, .ref o), (1, .long p0)]) hx hb dX1_addInParallel_4 rfl hl (by decide) rfl (fun ls hl => ?_)
  refine lv_aload_n hx hb dX1_addInParallel_5 rfl (lv_at hl 1 rfl) ?_
  refine g_get hx hb hts S.2.2.2.1 hK hP in_X1 0 rfl rfl 0 (by decide) q219 (fun _ h9 => h9) (v := .long ξ_3.1) rfl dX1_addInParallel_6 ?_
  refine lv_ldc2 hx hb S.2.2.2.1 (hts _ q151) dX1_addInParallel_9 ?_
  refine lv_lmul hx hb dX1_addInParallel_12 ?_
  refine lv_lload_n hx hb dX1_addInParallel_13 rfl (lv_at hl 0 rfl) ?_
  obtain ⟨g_4, hf⟩ := ga_some hf
  refine lv_ldiv hx hb dX1_addInParallel_14 g_4 ?_
  refine lv_topl (fun v_5 e_ => ?_)
  replace hf := nm_some hf v_5 e_
  clear e_
  refine lv_lstore (lv' := [(5, .long v_5), (3, .long r_2), (0, .ref o), (1, .long p0)]) hx hb dX1_addInParallel_15 hl (by decide) rfl (fun ls hl => ?_)
  refine lv_aload_n hx hb dX1_addInParallel_17 rfl (lv_at hl 2 rfl) ?_
  refine g_get hx hb hts S.2.2.2.1 hK hP in_X1 0 rfl rfl 1 (by decide) q222 (fun _ h9 => h9) (v := .long ξ_3.2) rfl dX1_addInParallel_18 ?_
  refine lv_lneg hx hb dX1_addInParallel_21 ?_
  refine lv_ldc2 hx hb S.2.2.2.1 (hts _ q151) dX1_addInParallel_22 ?_
  refine lv_lmul hx hb dX1_addInParallel_25 ?_
  refine lv_lload_n hx hb dX1_addInParallel_26 rfl (lv_at hl 1 rfl) ?_
  obtain ⟨g_6, hf⟩ := ga_some hf
  refine lv_ldiv hx hb dX1_addInParallel_27 g_6 ?_
  refine lv_lload_n hx hb dX1_addInParallel_28 rfl (lv_at hl 3 rfl) ?_
  refine lv_ladd hx hb dX1_addInParallel_29 ?_
  refine lv_topl (fun v_7 e_ => ?_)
  replace hf := nm_some hf v_7 e_
  clear e_
  refine lv_lstore (lv' := [(7, .long v_7), (5, .long v_5), (3, .long r_2), (0, .ref o), (1, .long p0)]) hx hb dX1_addInParallel_30 hl (by decide) rfl (fun ls hl => ?_)
  refine lv_lload hx hb dX1_addInParallel_32 (lv_at hl 1 rfl) ?_
  refine lv_lload hx hb dX1_addInParallel_34 (lv_at hl 1 rfl) ?_
  refine lv_lmul hx hb dX1_addInParallel_36 ?_
  refine lv_lload hx hb dX1_addInParallel_37 (lv_at hl 0 rfl) ?_
  refine lv_lload hx hb dX1_addInParallel_39 (lv_at hl 0 rfl) ?_
  refine lv_lmul hx hb dX1_addInParallel_41 ?_
  refine lv_ladd hx hb dX1_addInParallel_42 ?_
  refine lv_topl (fun v_8 e_ => ?_)
  replace hf := nm_some hf v_8 e_
  clear e_
  refine lv_lstore (lv' := [(9, .long v_8), (7, .long v_7), (5, .long v_5), (3, .long r_2), (0, .ref o), (1, .long p0)]) hx hb dX1_addInParallel_43 hl (by decide) rfl (fun ls hl => ?_)
  refine lv_lload hx hb dX1_addInParallel_45 (lv_at hl 0 rfl) ?_
  refine lv_lconst (v := 0) hx hb dX1_addInParallel_47 (by decide) ?_
  refine g_lcmp_ne (tgt := 63) hx hb dX1_addInParallel_48 dX1_addInParallel_49 (by decide) (fun c_9 => ?_) (fun c_9 => ?_)
  · replace hf := it_f hf c_9
    clear c_9
    refine lv_aload_n hx hb dX1_addInParallel_63 rfl (lv_at hl 4 rfl) ?_
    refine lv_lload hx hb dX1_addInParallel_64 (lv_at hl 2 rfl) ?_
    refine lv_ldc2 hx hb S.2.2.2.1 (hts _ q151) dX1_addInParallel_66 ?_
    refine lv_lmul hx hb dX1_addInParallel_69 ?_
    refine lv_lload hx hb dX1_addInParallel_70 (lv_at hl 0 rfl) ?_
    obtain ⟨g_10, hf⟩ := ga_some hf
    refine lv_ldiv hx hb dX1_addInParallel_72 g_10 ?_
    obtain ⟨r_11, h_12, hf⟩ := b1_some hf
    refine sj_call S (tX1_limited l K ((v_5 * (10000000000 : Int64)) / v_8) _ h_12) (va_cwS 1 hts (lw_S q157 q158 q95 q159) rfl rfl rfl (by decide +kernel) ⟨(Nat.le_of_ble_eq_true rfl), (Nat.le_of_ble_eq_true rfl)⟩) rfl hl.1 rfl (Nat.le_of_ble_eq_true rfl) ⟨(Nat.le_of_ble_eq_true rfl), (Nat.le_of_ble_eq_true rfl)⟩ dX1_addInParallel_73 ?_
    clear h_12
    refine lv_lload hx hb dX1_addInParallel_76 (lv_at hl 1 rfl) ?_
    refine lv_lneg hx hb dX1_addInParallel_78 ?_
    refine lv_ldc2 hx hb S.2.2.2.1 (hts _ q151) dX1_addInParallel_79 ?_
    refine lv_lmul hx hb dX1_addInParallel_82 ?_
    refine lv_lload hx hb dX1_addInParallel_83 (lv_at hl 0 rfl) ?_
    obtain ⟨g_13, hf⟩ := ga_some hf
    refine lv_ldiv hx hb dX1_addInParallel_85 g_13 ?_
    obtain ⟨r_14, h_15, hf⟩ := b1_some hf
    refine sj_call S (tX1_limited l K (((-v_7) * (10000000000 : Int64)) / v_8) _ h_15) (va_cwS 1 hts (lw_S q157 q158 q95 q159) rfl rfl rfl (by decide +kernel) ⟨(Nat.le_of_ble_eq_true rfl), (Nat.le_of_ble_eq_true rfl)⟩) rfl hl.1 rfl (Nat.le_of_ble_eq_true rfl) ⟨(Nat.le_of_ble_eq_true rfl), (Nat.le_of_ble_eq_true rfl)⟩ dX1_addInParallel_86 ?_
    clear h_15
    obtain ⟨ξ_17, h_16, hf⟩ := b1_some hf
    refine runW_v (va_runV (As := [.long r_11, .long r_14]) (rest := []) S (tX1_set l D d z o K r_11 r_14 ξ_3 ξ_17 h_16 _) (cwV 2 hts (lw_V q153 q154 q155 q95 q156) rfl rfl rfl (by decide +kernel) ⟨(Nat.le_of_ble_eq_true rfl), (Nat.le_of_ble_eq_true rfl)⟩) ⟨Pw.blind, (va_recv hK.1 hP (ci := 2) (q0 := 0) rfl rfl), fun U hU hW => Pw.at hK hP hD hZ hS hA hU hW⟩ rfl rfl hl.1 rfl (lv_room (Nat.le_of_ble_eq_true rfl)) dX1_addInParallel_89 ⟨(Nat.le_of_ble_eq_true rfl), (Nat.le_of_ble_eq_true rfl)⟩) hP hD hS hA ?_
    clear hP hD hS
    intro H locs hP hD hS
    clear h_16
    refine W.widen (k := 0) (n := 0) (Nat.le_of_ble_eq_true rfl) (Nat.le_of_ble_eq_true rfl) ?_
    exact hret _ _ _ _ _ hf dX1_addInParallel_92 hP hD hS
  · replace hf := it_t hf c_9
    clear c_9
    refine lv_aload_n hx hb dX1_addInParallel_52 rfl (lv_at hl 4 rfl) ?_
    refine lv_ldc2 hx hb S.2.2.2.1 (hts _ q152) dX1_addInParallel_53 ?_
    refine lv_lconst (v := 0) hx hb dX1_addInParallel_56 (by decide) ?_
    obtain ⟨ξ_19, h_18, hf⟩ := b1_some hf
    refine runW_v (va_runV (As := [.long (1000000000 : Int64), .long (0 : Int64)]) (rest := []) S (tX1_set l D d z o K (1000000000 : Int64) (0 : Int64) ξ_3 ξ_19 h_18 _) (cwV 2 hts (lw_V q153 q154 q155 q95 q156) rfl rfl rfl (by decide +kernel) ⟨(Nat.le_of_ble_eq_true rfl), (Nat.le_of_ble_eq_true rfl)⟩) ⟨Pw.blind, (va_recv hK.1 hP (ci := 2) (q0 := 0) rfl rfl), fun U hU hW => Pw.at hK hP hD hZ hS hA hU hW⟩ rfl rfl hl.1 rfl (lv_room (Nat.le_of_ble_eq_true rfl)) dX1_addInParallel_57 ⟨(Nat.le_of_ble_eq_true rfl), (Nat.le_of_ble_eq_true rfl)⟩) hP hD hS hA ?_
    clear hP hD hS
    intro H locs hP hD hS
    clear h_18
    refine lv_goto (tgt := 92) hx hb dX1_addInParallel_60 (by decide) ?_
    refine W.widen (k := 0) (n := 0) (Nat.le_of_ble_eq_true rfl) (Nat.le_of_ble_eq_true rfl) ?_
    exact hret _ _ _ _ _ hf dX1_addInParallel_92 hP hD hS
def fX1_swr (K : Nat) (μ : Int64 × Int64) : Option (Int32 × Int64 × Int64) :=
  b1 (fX0_root K (((μ.1 - (50000 : Int64)) * (μ.1 - (50000 : Int64))) + (μ.2 * μ.2))) fun r_1 =>
  b1 (fX0_root K (((μ.1 + (50000 : Int64)) * (μ.1 + (50000 : Int64))) + (μ.2 * μ.2))) fun r_3 =>
  if r_1 < r_3 then
    ga (¬ (r_3 - r_1) = 0) <|
    nm (if (((100 : Int64) * (r_3 + r_1)) / (r_3 - r_1)) < (99999 : Int64) then (((100 : Int64) * (r_3 + r_1)) / (r_3 - r_1)) else (99999 : Int64)) fun v_7 =>
    some (v_7.toInt32, μ)
  else
    some ((99999 : Int32), μ)
set_option maxHeartbeats 4000000 in
set_option maxRecDepth 100000 in
theorem tX1_swr (l : Launch) (D : va_G) (d : Nat → ClassId) (z : ZT) (o : Nat) (K : Nat) (μ : Int64 × Int64) (r : Int32) (μ' : Int64 × Int64) (hf : fX1_swr K μ = some (r, μ')) : CI l yX1_swr (ws_ yX1_swr cX1_swr 5 (Option.some Jvm.ClassFile.FieldType.int)) (rmc 1 0 0 27) D d z [.ref o] (IP o μ) r (IP o μ') := by
  refine CI.of2 (own := RX1) rfl (by decide) (Nat.le_of_ble_eq_true rfl) rfl ?_
  intro p e s m args below meth c A Q ls S hin hK hP hD hZ hS hA hl hret0
  have hret : ∀ (x : Int32) (μx : Int64 × Int64) (H : Heap) (locs : List Loc) (pc : Nat) (ls' : Array Slot), some (x, μx) = some (r, μ') → decode cX1_swr pc = .ok (.ireturn, 1) → va_P D CL (IP o μx) H → va_D A (IP o μx) → va_S A s.heap H locs → W p l e (rmc 1 0 0 27) s m args below meth c H locs 0 0 Q (F0 m pc ls' [.int x]) := by
    intro x μx H locs pc ls' h9 hdg hP hD hS
    obtain ⟨rfl, rfl⟩ := so_2 h9
    exact hret0 H locs pc ls' hdg hP hD hS
  have hx := S.1
  have hb := S.2.1
  have hts := S.2.2.2.2
  have hl : lv_has ls 5 [(0, .ref o)] := hl
  unfold fX1_swr at hf
  refine lv_aload_n hx hb dX1_swr_0 rfl (lv_at hl 0 rfl) ?_
  refine g_get hx hb hts S.2.2.2.1 hK hP in_X1 0 rfl rfl 0 (by decide) q219 (fun _ h9 => h9) (v := .long μ.1) rfl dX1_swr_1 ?_
  refine lv_ldc2 hx hb S.2.2.2.1 (hts _ q1127) dX1_swr_4 ?_
  refine lv_lsub hx hb dX1_swr_7 ?_
  refine lv_aload_n hx hb dX1_swr_8 rfl (lv_at hl 0 rfl) ?_
  refine g_get hx hb hts S.2.2.2.1 hK hP in_X1 0 rfl rfl 0 (by decide) q219 (fun _ h9 => h9) (v := .long μ.1) rfl dX1_swr_9 ?_
  refine lv_ldc2 hx hb S.2.2.2.1 (hts _ q1127) dX1_swr_12 ?_
  refine lv_lsub hx hb dX1_swr_15 ?_
  refine lv_lmul hx hb dX1_swr_16 ?_
  refine lv_aload_n hx hb dX1_swr_17 rfl (lv_at hl 0 rfl) ?_
  refine g_get hx hb hts S.2.2.2.1 hK hP in_X1 0 rfl rfl 1 (by decide) q222 (fun _ h9 => h9) (v := .long μ.2) rfl dX1_swr_18 ?_
  refine lv_aload_n hx hb dX1_swr_21 rfl (lv_at hl 0 rfl) ?_
  refine g_get hx hb hts S.2.2.2.1 hK hP in_X1 0 rfl rfl 1 (by decide) q222 (fun _ h9 => h9) (v := .long μ.2) rfl dX1_swr_22 ?_
  refine lv_lmul hx hb dX1_swr_25 ?_
  refine lv_ladd hx hb dX1_swr_26 ?_
  obtain ⟨r_1, h_2, hf⟩ := b1_some hf
  refine sj_callN S (tX0_root l K (((μ.1 - (50000 : Int64)) * (μ.1 - (50000 : Int64))) + (μ.2 * μ.2)) _ h_2) ⟨va_cnB 1 hts (lw_meth q1130) rfl rfl rfl (va_Nw.use_ hK q1128) (hts _ q94) (by decide +kernel) ⟨(Nat.le_of_ble_eq_true rfl), (Nat.le_of_ble_eq_true rfl)⟩, hts _ q1129, trivial⟩ rfl hl.1 rfl (Nat.le_of_ble_eq_true rfl) ⟨(Nat.le_of_ble_eq_true rfl), (Nat.le_of_ble_eq_true rfl)⟩ dX1_swr_27 ?_
  clear h_2
  refine lv_lstore_n (lv' := [(1, .long r_1), (0, .ref o)]) hx hb dX1_swr_30 rfl hl (by decide) rfl (fun ls hl => ?_)
  refine lv_aload_n hx hb dX1_swr_31 rfl (lv_at hl 1 rfl) ?_
  refine g_get hx hb hts S.2.2.2.1 hK hP in_X1 0 rfl rfl 0 (by decide) q219 (fun _ h9 => h9) (v := .long μ.1) rfl dX1_swr_32 ?_
  refine lv_ldc2 hx hb S.2.2.2.1 (hts _ q1127) dX1_swr_35 ?_
  refine lv_ladd hx hb dX1_swr_38 ?_
  refine lv_aload_n hx hb dX1_swr_39 rfl (lv_at hl 1 rfl) ?_
  refine g_get hx hb hts S.2.2.2.1 hK hP in_X1 0 rfl rfl 0 (by decide) q219 (fun _ h9 => h9) (v := .long μ.1) rfl dX1_swr_40 ?_
  refine lv_ldc2 hx hb S.2.2.2.1 (hts _ q1127) dX1_swr_43 ?_
  refine lv_ladd hx hb dX1_swr_46 ?_
  refine lv_lmul hx hb dX1_swr_47 ?_
  refine lv_aload_n hx hb dX1_swr_48 rfl (lv_at hl 1 rfl) ?_
  refine g_get hx hb hts S.2.2.2.1 hK hP in_X1 0 rfl rfl 1 (by decide) q222 (fun _ h9 => h9) (v := .long μ.2) rfl dX1_swr_49 ?_
  refine lv_aload_n hx hb dX1_swr_52 rfl (lv_at hl 1 rfl) ?_
  refine g_get hx hb hts S.2.2.2.1 hK hP in_X1 0 rfl rfl 1 (by decide) q222 (fun _ h9 => h9) (v := .long μ.2) rfl dX1_swr_53 ?_
  refine lv_lmul hx hb dX1_swr_56 ?_
  refine lv_ladd hx hb dX1_swr_57 ?_
  obtain ⟨r_3, h_4, hf⟩ := b1_some hf
  refine sj_callN S (tX0_root l K (((μ.1 + (50000 : Int64)) * (μ.1 + (50000 : Int64))) + (μ.2 * μ.2)) _ h_4) ⟨va_cnB 1 hts (lw_meth q1130) rfl rfl rfl (va_Nw.use_ hK q1128) (hts _ q94) (by decide +kernel) ⟨(Nat.le_of_ble_eq_true rfl), (Nat.le_of_ble_eq_true rfl)⟩, hts _ q1129, trivial⟩ rfl hl.1 rfl (Nat.le_of_ble_eq_true rfl) ⟨(Nat.le_of_ble_eq_true rfl), (Nat.le_of_ble_eq_true rfl)⟩ dX1_swr_58 ?_
  clear h_4
  refine lv_lstore_n (lv' := [(3, .long r_3), (1, .long r_1), (0, .ref o)]) hx hb dX1_swr_61 rfl hl (by decide) rfl (fun ls hl => ?_)
  refine lv_lload_n hx hb dX1_swr_62 rfl (lv_at hl 0 rfl) ?_
  refine lv_lload_n hx hb dX1_swr_63 rfl (lv_at hl 1 rfl) ?_
  refine g_lcmp_gt (tgt := 73) hx hb dX1_swr_64 dX1_swr_65 (by decide) (fun c_5 => ?_) (fun c_5 => ?_)
  · replace hf := it_t hf c_5
    clear c_5
    refine lv_ldc2 hx hb S.2.2.2.1 (hts _ q1134) dX1_swr_73 ?_
    refine lv_ldc2 hx hb S.2.2.2.1 (hts _ q1135) dX1_swr_76 ?_
    refine lv_lload_n hx hb dX1_swr_79 rfl (lv_at hl 0 rfl) ?_
    refine lv_lload_n hx hb dX1_swr_80 rfl (lv_at hl 1 rfl) ?_
    refine lv_ladd hx hb dX1_swr_81 ?_
    refine lv_lmul hx hb dX1_swr_82 ?_
    refine lv_lload_n hx hb dX1_swr_83 rfl (lv_at hl 0 rfl) ?_
    refine lv_lload_n hx hb dX1_swr_84 rfl (lv_at hl 1 rfl) ?_
    refine lv_lsub hx hb dX1_swr_85 ?_
    obtain ⟨g_6, hf⟩ := ga_some hf
    refine lv_ldiv hx hb dX1_swr_86 g_6 ?_
    refine va_mmin_long hx hb (S.2.2.1.trans hl.1.symm) S.2.2.2.1 (hts _ q161) (hts _ q162) (hts _ q96) (hts _ q163) (Nat.le_of_ble_eq_true rfl) (Nat.le_of_ble_eq_true rfl) (Nat.le_of_ble_eq_true rfl) (Nat.le_of_ble_eq_true rfl) dX1_swr_87 ?_
    refine lv_topl (fun v_7 e_ => ?_)
    replace hf := nm_some hf v_7 e_
    clear e_
    refine lv_l2i (v := v_7.toInt32) hx hb dX1_swr_90 rfl ?_
    refine W.widen (k := 0) (n := 0) (Nat.le_of_ble_eq_true rfl) (Nat.le_of_ble_eq_true rfl) ?_
    exact hret _ _ _ _ _ _ hf dX1_swr_91 hP hD hS
  · replace hf := it_f hf c_5
    clear c_5
    refine lv_ldc hx hb S.2.2.2.1 (hts _ q1133) dX1_swr_68 ?_
    refine lv_goto (tgt := 91) hx hb dX1_swr_70 (by decide) ?_
    refine W.widen (k := 0) (n := 0) (Nat.le_of_ble_eq_true rfl) (Nat.le_of_ble_eq_true rfl) ?_
    exact hret _ _ _ _ _ _ hf dX1_swr_91 hP hD hS
def fX1_voltageWith (K : Nat) (p0 : Int32) (μ : Int64 × Int64) : Option (Int32 × Int64 × Int64) :=
  if μ.1 = (0 : Int64) then
    some ((99999 : Int32), μ)
  else
    b2 (fX1_square K μ) fun r_3 ξ_4 =>
    ga (¬ ξ_4.1 = 0) <|
    nm (if (r_3 / ξ_4.1) < (1000000000000 : Int64) then (r_3 / ξ_4.1) else (1000000000000 : Int64)) fun v_6 =>
    b1 (fX0_root K ((p0.toInt64 * v_6) / (1000 : Int64))) fun r_7 =>
    nm (if r_7 < (99999 : Int64) then r_7 else (99999 : Int64)) fun v_9 =>
    some (v_9.toInt32, ξ_4)
set_option maxHeartbeats 4000000 in
set_option maxRecDepth 100000 in
theorem tX1_voltageWith (l : Launch) (D : va_G) (d : Nat → ClassId) (z : ZT) (o : Nat) (K : Nat) (p0 : Int32) (μ : Int64 × Int64) (r : Int32) (μ' : Int64 × Int64) (hf : fX1_voltageWith K p0 μ = some (r, μ')) : CI l yX1_voltageWith (ws_ yX1_voltageWith cX1_voltageWith 4 (Option.some Jvm.ClassFile.FieldType.int)) (rmc 1 0 0 27) D d z [.ref o, .int p0] (IP o μ) r (IP o μ') := by
  refine CI.of2 (own := RX1) rfl (by decide) (Nat.le_of_ble_eq_true rfl) rfl ?_
  intro p e s m args below meth c A Q ls S hin hK hP hD hZ hS hA hl hret0
  have hret : ∀ (x : Int32) (μx : Int64 × Int64) (H : Heap) (locs : List Loc) (pc : Nat) (ls' : Array Slot), some (x, μx) = some (r, μ') → decode cX1_voltageWith pc = .ok (.ireturn, 1) → va_P D CL (IP o μx) H → va_D A (IP o μx) → va_S A s.heap H locs → W p l e (rmc 1 0 0 27) s m args below meth c H locs 0 0 Q (F0 m pc ls' [.int x]) := by
    intro x μx H locs pc ls' h9 hdg hP hD hS
    obtain ⟨rfl, rfl⟩ := so_2 h9
    exact hret0 H locs pc ls' hdg hP hD hS
  have hx := S.1
  have hb := S.2.1
  have hts := S.2.2.2.2
  have hl : lv_has ls 4 [(0, .ref o), (1, .int p0)] := hl
  unfold fX1_voltageWith at hf
  refine lv_aload_n hx hb dX1_voltageWith_0 rfl (lv_at hl 0 rfl) ?_
  refine g_get hx hb hts S.2.2.2.1 hK hP in_X1 0 rfl rfl 0 (by decide) q219 (fun _ h9 => h9) (v := .long μ.1) rfl dX1_voltageWith_1 ?_
  refine lv_lconst (v := 0) hx hb dX1_voltageWith_4 (by decide) ?_
  refine g_lcmp_ne (tgt := 12) hx hb dX1_voltageWith_5 dX1_voltageWith_6 (by decide) (fun c_1 => ?_) (fun c_1 => ?_)
  · replace hf := it_f hf c_1
    clear c_1
    refine lv_ldc2 hx hb S.2.2.2.1 (hts _ q1178) dX1_voltageWith_12 ?_
    refine lv_aload_n hx hb dX1_voltageWith_15 rfl (lv_at hl 0 rfl) ?_
    obtain ⟨r_3, ξ_4, h_2, hf⟩ := b2_some hf
    refine runW_j (va_runV (As := []) (rest := [.long (1000000000000 : Int64)]) S (tX1_square l D d z o K μ r_3 ξ_4 h_2 _) (cwV 0 hts (lw_V q146 q148 qs0 q95 q150) rfl rfl rfl (by decide +kernel) ⟨(Nat.le_of_ble_eq_true rfl), (Nat.le_of_ble_eq_true rfl)⟩) ⟨Pw.blind, (va_recv hK.1 hP (ci := 2) (q0 := 0) rfl rfl), fun U hU hW => Pw.at hK hP hD hZ hS hA hU hW⟩ rfl rfl hl.1 rfl (lv_room (Nat.le_of_ble_eq_true rfl)) dX1_voltageWith_16 ⟨(Nat.le_of_ble_eq_true rfl), (Nat.le_of_ble_eq_true rfl)⟩) hP hD hS hA ?_
    clear hP hD hS
    intro H locs hP hD hS
    clear h_2
    refine lv_aload_n hx hb dX1_voltageWith_19 rfl (lv_at hl 0 rfl) ?_
    refine g_get hx hb hts S.2.2.2.1 hK hP in_X1 0 rfl rfl 0 (by decide) q219 (fun _ h9 => h9) (v := .long ξ_4.1) rfl dX1_voltageWith_20 ?_
    obtain ⟨g_5, hf⟩ := ga_some hf
    refine lv_ldiv hx hb dX1_voltageWith_23 g_5 ?_
    refine va_mmin_long hx hb (S.2.2.1.trans hl.1.symm) S.2.2.2.1 (hts _ q161) (hts _ q162) (hts _ q96) (hts _ q163) (Nat.le_of_ble_eq_true rfl) (Nat.le_of_ble_eq_true rfl) (Nat.le_of_ble_eq_true rfl) (Nat.le_of_ble_eq_true rfl) dX1_voltageWith_24 ?_
    refine lv_topl (fun v_6 e_ => ?_)
    replace hf := nm_some hf v_6 e_
    clear e_
    refine lv_lstore_n (lv' := [(2, .long v_6), (0, .ref o), (1, .int p0)]) hx hb dX1_voltageWith_27 rfl hl (by decide) rfl (fun ls hl => ?_)
    refine lv_ldc2 hx hb S.2.2.2.1 (hts _ q1134) dX1_voltageWith_28 ?_
    refine lv_iload_n hx hb dX1_voltageWith_31 rfl (lv_at hl 2 rfl) ?_
    refine lv_i2l (v := p0.toInt64) hx hb dX1_voltageWith_32 rfl ?_
    refine lv_lload_n hx hb dX1_voltageWith_33 rfl (lv_at hl 0 rfl) ?_
    refine lv_lmul hx hb dX1_voltageWith_34 ?_
    refine lv_ldc2 hx hb S.2.2.2.1 (hts _ q1179) dX1_voltageWith_35 ?_
    refine lv_ldiv hx hb dX1_voltageWith_38 (by decide) ?_
    obtain ⟨r_7, h_8, hf⟩ := b1_some hf
    refine sj_callN S (tX0_root l K ((p0.toInt64 * v_6) / (1000 : Int64)) _ h_8) ⟨va_cnB 1 hts (lw_meth q1130) rfl rfl rfl (va_Nw.use_ hK q1128) (hts _ q94) (by decide +kernel) ⟨(Nat.le_of_ble_eq_true rfl), (Nat.le_of_ble_eq_true rfl)⟩, hts _ q1129, trivial⟩ rfl hl.1 rfl (Nat.le_of_ble_eq_true rfl) ⟨(Nat.le_of_ble_eq_true rfl), (Nat.le_of_ble_eq_true rfl)⟩ dX1_voltageWith_39 ?_
    clear h_8
    refine va_mmin_long hx hb (S.2.2.1.trans hl.1.symm) S.2.2.2.1 (hts _ q161) (hts _ q162) (hts _ q96) (hts _ q163) (Nat.le_of_ble_eq_true rfl) (Nat.le_of_ble_eq_true rfl) (Nat.le_of_ble_eq_true rfl) (Nat.le_of_ble_eq_true rfl) dX1_voltageWith_42 ?_
    refine lv_topl (fun v_9 e_ => ?_)
    replace hf := nm_some hf v_9 e_
    clear e_
    refine lv_l2i (v := v_9.toInt32) hx hb dX1_voltageWith_45 rfl ?_
    refine W.widen (k := 0) (n := 0) (Nat.le_of_ble_eq_true rfl) (Nat.le_of_ble_eq_true rfl) ?_
    exact hret _ _ _ _ _ _ hf dX1_voltageWith_46 hP hD hS
  · replace hf := it_t hf c_1
    clear c_1
    refine lv_ldc hx hb S.2.2.2.1 (hts _ q1133) dX1_voltageWith_9 ?_
    refine W.widen (k := 0) (n := 0) (Nat.le_of_ble_eq_true rfl) (Nat.le_of_ble_eq_true rfl) ?_
    exact hret _ _ _ _ _ _ hf dX1_voltageWith_11 hP hD hS
def fX2_init (K : Nat) (p0 : Int32) (p1 : Int32) (p2 : Int32) (μ : Int32 × Int32 × Int32) : Option (Int32 × Int32 × Int32) :=
  some (p0, p1, p2)
set_option maxHeartbeats 4000000 in
set_option maxRecDepth 100000 in
theorem tX2_init (l : Launch) (D : va_G) (d : Nat → ClassId) (z : ZT) (o : Nat) (K : Nat) (p0 : Int32) (p1 : Int32) (p2 : Int32) (μ : Int32 × Int32 × Int32) (μ' : Int32 × Int32 × Int32) (hf : fX2_init K p0 p1 p2 μ = some μ') : CV l yX2_init (ws_ yX2_init cX2_init 4 (Option.none : Option Jvm.ClassFile.FieldType)) (rmc 1 0 0 12) D d z [.ref o, .int p0, .int p1, .int p2] (SP o μ) (SP o μ') := by
  refine CV.of2 (own := RX2) rfl (by decide) (Nat.le_of_ble_eq_true rfl) ?_
  intro p e s m args below meth c A Q ls S hin hK hP hD hZ hS hA hl hret0
  have hret : ∀ (μx : Int32 × Int32 × Int32) (H : Heap) (locs : List Loc) (pc : Nat) (ls' : Array Slot), some μx = some μ' → decode cX2_init pc = .ok (.return_, 1) → va_P D CL (SP o μx) H → va_D A (SP o μx) → va_S A s.heap H locs → W p l e (rmc 1 0 0 12) s m args below meth c H locs 0 0 Q (F0 m pc ls' []) := by
    intro μx H locs pc ls' h9 hdg hP hD hS
    obtain rfl := so_1 h9
    exact hret0 H locs pc ls' hdg hP hD hS
  have hx := S.1
  have hb := S.2.1
  have hts := S.2.2.2.2
  have hl : lv_has ls 4 [(0, .ref o), (1, .int p0), (2, .int p1), (3, .int p2)] := hl
  unfold fX2_init at hf
  refine lv_aload_n hx hb dX2_init_0 rfl (lv_at hl 0 rfl) ?_
  refine W.objInit hx hb S.2.2.2.1 (hts _ q183) (hts _ q136) (hts _ q137) rfl (by rw [S.2.2.1]; exact hl.1) rfl dX2_init_1 (Nat.le_of_ble_eq_true rfl) (Nat.le_of_ble_eq_true rfl) ?_
  refine W.eq (g2 := F0 m 4 ls []) rfl ?_
  refine lv_aload_n hx hb dX2_init_4 rfl (lv_at hl 0 rfl) ?_
  refine lv_iload_n hx hb dX2_init_5 rfl (lv_at hl 1 rfl) ?_
  refine g_putF hx hb hts S.2.2.2.1 hK hP hD hS in_X2 tyX2 tyX2_ok nmX2 0 rfl rfl 0 (by decide) q184 (fun _ h9 => h9) rfl hin rfl (v := .int p0) rfl rfl rfl (Nat.le_of_ble_eq_true rfl) (w' := SP o (p0, μ.2.1, μ.2.2)) rfl dX2_init_6 ?_
  clear hP hD hS
  intro H locs hP hD hS
  refine lv_aload_n hx hb dX2_init_9 rfl (lv_at hl 0 rfl) ?_
  refine lv_iload_n hx hb dX2_init_10 rfl (lv_at hl 2 rfl) ?_
  refine g_putF hx hb hts S.2.2.2.1 hK hP hD hS in_X2 tyX2 tyX2_ok nmX2 0 rfl rfl 1 (by decide) q186 (fun _ h9 => h9) rfl hin rfl (v := .int p1) rfl rfl rfl (Nat.le_of_ble_eq_true rfl) (w' := SP o (p0, p1, μ.2.2)) rfl dX2_init_11 ?_
  clear hP hD hS
  intro H locs hP hD hS
  refine lv_aload_n hx hb dX2_init_14 rfl (lv_at hl 0 rfl) ?_
  refine lv_iload_n hx hb dX2_init_15 rfl (lv_at hl 3 rfl) ?_
  refine g_putF hx hb hts S.2.2.2.1 hK hP hD hS in_X2 tyX2 tyX2_ok nmX2 0 rfl rfl 2 (by decide) q189 (fun _ h9 => h9) rfl hin rfl (v := .int p2) rfl rfl rfl (Nat.le_of_ble_eq_true rfl) (w' := SP o (p0, p1, p2)) rfl dX2_init_16 ?_
  clear hP hD hS
  intro H locs hP hD hS
  refine W.widen (k := 0) (n := 0) (Nat.le_of_ble_eq_true rfl) (Nat.le_of_ble_eq_true rfl) ?_
  exact hret _ _ _ _ _ hf dX2_init_19 hP hD hS
def fX2_code (K : Nat) (μ : Int32 × Int32 × Int32) : Option (Int32 × Int32 × Int32 × Int32) :=
  some ((((4096 : Int32) * μ.1) + ((64 : Int32) * μ.2.1)) + μ.2.2, μ)
set_option maxHeartbeats 4000000 in
set_option maxRecDepth 100000 in
theorem tX2_code (l : Launch) (D : va_G) (d : Nat → ClassId) (z : ZT) (o : Nat) (K : Nat) (μ : Int32 × Int32 × Int32) (r : Int32) (μ' : Int32 × Int32 × Int32) (hf : fX2_code K μ = some (r, μ')) : CI l yX2_code (ws_ yX2_code cX2_code 1 (Option.some Jvm.ClassFile.FieldType.int)) (rmc 0 0 0 0) D d z [.ref o] (SP o μ) r (SP o μ') := by
  refine CI.of2 (own := RX2) rfl (by decide) (Nat.le_of_ble_eq_true rfl) rfl ?_
  intro p e s m args below meth c A Q ls S hin hK hP hD hZ hS hA hl hret0
  have hret : ∀ (x : Int32) (μx : Int32 × Int32 × Int32) (H : Heap) (locs : List Loc) (pc : Nat) (ls' : Array Slot), some (x, μx) = some (r, μ') → decode cX2_code pc = .ok (.ireturn, 1) → va_P D CL (SP o μx) H → va_D A (SP o μx) → va_S A s.heap H locs → W p l e (rmc 0 0 0 0) s m args below meth c H locs 0 0 Q (F0 m pc ls' [.int x]) := by
    intro x μx H locs pc ls' h9 hdg hP hD hS
    obtain ⟨rfl, rfl⟩ := so_2 h9
    exact hret0 H locs pc ls' hdg hP hD hS
  have hx := S.1
  have hb := S.2.1
  have hts := S.2.2.2.2
  have hl : lv_has ls 1 [(0, .ref o)] := hl
  unfold fX2_code at hf
  refine lv_sipush (v := 4096) hx hb dX2_code_0 (by decide) ?_
  refine lv_aload_n hx hb dX2_code_3 rfl (lv_at hl 0 rfl) ?_
  refine g_get hx hb hts S.2.2.2.1 hK hP in_X2 0 rfl rfl 0 (by decide) q184 (fun _ h9 => h9) (v := .int μ.1) rfl dX2_code_4 ?_
  refine lv_imul hx hb dX2_code_7 ?_
  refine lv_bipush (v := 64) hx hb dX2_code_8 (by decide) ?_
  refine lv_aload_n hx hb dX2_code_10 rfl (lv_at hl 0 rfl) ?_
  refine g_get hx hb hts S.2.2.2.1 hK hP in_X2 0 rfl rfl 1 (by decide) q186 (fun _ h9 => h9) (v := .int μ.2.1) rfl dX2_code_11 ?_
  refine lv_imul hx hb dX2_code_14 ?_
  refine lv_iadd hx hb dX2_code_15 ?_
  refine lv_aload_n hx hb dX2_code_16 rfl (lv_at hl 0 rfl) ?_
  refine g_get hx hb hts S.2.2.2.1 hK hP in_X2 0 rfl rfl 2 (by decide) q189 (fun _ h9 => h9) (v := .int μ.2.2) rfl dX2_code_17 ?_
  refine lv_iadd hx hb dX2_code_20 ?_
  refine W.widen (k := 0) (n := 0) (Nat.le_of_ble_eq_true rfl) (Nat.le_of_ble_eq_true rfl) ?_
  exact hret _ _ _ _ _ _ hf dX2_code_21 hP hD hS
def fX2_isPossible (K : Nat) (μ : Int32 × Int32 × Int32) : Option (Bool × Int32 × Int32 × Int32) :=
  b1 (fX0_isIn K μ.2.1 (0 : Int32) (63 : Int32)) fun r_1 =>
  if r_1 = true then
    b1 (fX0_isIn K μ.2.2 (0 : Int32) (63 : Int32)) fun r_4 =>
    if r_4 = true then
      some (true, μ)
    else
      some (false, μ)
  else
    some (false, μ)
set_option maxHeartbeats 4000000 in
set_option maxRecDepth 100000 in
theorem tX2_isPossible (l : Launch) (D : va_G) (d : Nat → ClassId) (z : ZT) (o : Nat) (K : Nat) (μ : Int32 × Int32 × Int32) (r : Bool) (μ' : Int32 × Int32 × Int32) (hf : fX2_isPossible K μ = some (r, μ')) : CI l yX2_isPossible (ws_ yX2_isPossible cX2_isPossible 1 (Option.some Jvm.ClassFile.FieldType.boolean)) (rmc 1 0 0 22) D d z [.ref o] (SP o μ) (bi r) (SP o μ') := by
  refine CI.of2 (own := RX2) rfl (by decide) (Nat.le_of_ble_eq_true rfl) (bi_nar r) ?_
  intro p e s m args below meth c A Q ls S hin hK hP hD hZ hS hA hl hret0
  have hret : ∀ (x : Bool) (μx : Int32 × Int32 × Int32) (H : Heap) (locs : List Loc) (pc : Nat) (ls' : Array Slot), some (x, μx) = some (r, μ') → decode cX2_isPossible pc = .ok (.ireturn, 1) → va_P D CL (SP o μx) H → va_D A (SP o μx) → va_S A s.heap H locs → W p l e (rmc 1 0 0 22) s m args below meth c H locs 0 0 Q (F0 m pc ls' [.int (bi x)]) := by
    intro x μx H locs pc ls' h9 hdg hP hD hS
    obtain ⟨rfl, rfl⟩ := so_2 h9
    exact hret0 H locs pc ls' hdg hP hD hS
  have hx := S.1
  have hb := S.2.1
  have hts := S.2.2.2.2
  have hl : lv_has ls 1 [(0, .ref o)] := hl
  unfold fX2_isPossible at hf
  refine lv_aload_n hx hb dX2_isPossible_0 rfl (lv_at hl 0 rfl) ?_
  refine g_get hx hb hts S.2.2.2.1 hK hP in_X2 0 rfl rfl 1 (by decide) q186 (fun _ h9 => h9) (v := .int μ.2.1) rfl dX2_isPossible_1 ?_
  refine lv_iconst (v := 0) hx hb dX2_isPossible_4 (by decide) ?_
  refine lv_bipush (v := 63) hx hb dX2_isPossible_5 (by decide) ?_
  obtain ⟨r_1, h_2, hf⟩ := b1_some hf
  refine si_callN S (tX0_isIn l K μ.2.1 (0 : Int32) (63 : Int32) _ h_2) ⟨va_cnB 3 hts (lw_meth q333) rfl rfl rfl (va_Nw.use_ hK q1271) (hts _ q94) (by decide +kernel) ⟨(Nat.le_of_ble_eq_true rfl), (Nat.le_of_ble_eq_true rfl)⟩, hts _ q332, trivial⟩ rfl hl.1 rfl (Nat.le_of_ble_eq_true rfl) ⟨(Nat.le_of_ble_eq_true rfl), (Nat.le_of_ble_eq_true rfl)⟩ dX2_isPossible_7 ?_
  clear h_2
  refine lv_if_eq (tgt := 30) hx hb dX2_isPossible_10 (by decide) (fun c_3 => ?_) (fun c_3 => ?_)
  · replace hf := it_f hf (bi_e0 c_3)
    clear c_3
    refine lv_iconst (v := 0) hx hb dX2_isPossible_30 (by decide) ?_
    refine W.widen (k := 0) (n := 0) (Nat.le_of_ble_eq_true rfl) (Nat.le_of_ble_eq_true rfl) ?_
    exact hret _ _ _ _ _ _ hf dX2_isPossible_31 hP hD hS
  · replace hf := it_t hf (bi_n0 c_3)
    clear c_3
    refine lv_aload_n hx hb dX2_isPossible_13 rfl (lv_at hl 0 rfl) ?_
    refine g_get hx hb hts S.2.2.2.1 hK hP in_X2 0 rfl rfl 2 (by decide) q189 (fun _ h9 => h9) (v := .int μ.2.2) rfl dX2_isPossible_14 ?_
    refine lv_iconst (v := 0) hx hb dX2_isPossible_17 (by decide) ?_
    refine lv_bipush (v := 63) hx hb dX2_isPossible_18 (by decide) ?_
    obtain ⟨r_4, h_5, hf⟩ := b1_some hf
    refine si_callN S (tX0_isIn l K μ.2.2 (0 : Int32) (63 : Int32) _ h_5) ⟨va_cnB 3 hts (lw_meth q333) rfl rfl rfl (va_Nw.use_ hK q1271) (hts _ q94) (by decide +kernel) ⟨(Nat.le_of_ble_eq_true rfl), (Nat.le_of_ble_eq_true rfl)⟩, hts _ q332, trivial⟩ rfl hl.1 rfl (Nat.le_of_ble_eq_true rfl) ⟨(Nat.le_of_ble_eq_true rfl), (Nat.le_of_ble_eq_true rfl)⟩ dX2_isPossible_20 ?_
    clear h_5
    refine lv_if_eq (tgt := 30) hx hb dX2_isPossible_23 (by decide) (fun c_6 => ?_) (fun c_6 => ?_)
    · replace hf := it_f hf (bi_e0 c_6)
      clear c_6
      refine lv_iconst (v := 0) hx hb dX2_isPossible_30 (by decide) ?_
      refine W.widen (k := 0) (n := 0) (Nat.le_of_ble_eq_true rfl) (Nat.le_of_ble_eq_true rfl) ?_
      exact hret _ _ _ _ _ _ hf dX2_isPossible_31 hP hD hS
    · replace hf := it_t hf (bi_n0 c_6)
      clear c_6
      refine lv_iconst (v := 1) hx hb dX2_isPossible_26 (by decide) ?_
      refine lv_goto (tgt := 31) hx hb dX2_isPossible_27 (by decide) ?_
      refine W.widen (k := 0) (n := 0) (Nat.le_of_ble_eq_true rfl) (Nat.le_of_ble_eq_true rfl) ?_
      exact hret _ _ _ _ _ _ hf dX2_isPossible_31 hP hD hS
def fX2_of (K : Nat) (p0 : Int32) : Option (Int32 × Int32 × Int32) :=
  b1 (fX2_init K (p0 / (4096 : Int32)) ((p0 / (64 : Int32)) - (p0 / (64 : Int32)) / (64 : Int32) * (64 : Int32)) (p0 - p0 / (64 : Int32) * (64 : Int32)) ((0 : Int32), (0 : Int32), (0 : Int32))) fun ξ_3 =>
  some (ξ_3.1, ξ_3.2.1, ξ_3.2.2)
set_option maxHeartbeats 4000000 in
set_option maxRecDepth 100000 in
theorem tX2_of (l : Launch) (D : va_G) (d : Nat → ClassId) (z : ZT) (K : Nat) (p0 : Int32) (r : (Int32 × Int32 × Int32)) (hf : fX2_of K p0 = some r) : CRS l yX2_of (ws_ yX2_of cX2_of 1 (Option.some (Jvm.ClassFile.FieldType.object "AntennaTuner$Setting"))) (rmc 2 1 3 35) D d z [.int p0] ([]) (fun u : Nat => u) (fun u => [(u, .inr (3, [.int r.1, .int r.2.1, .int r.2.2]))]) (fun _ => True) := by
  refine CRS.of (own := RX2) rfl (by decide) (Nat.le_of_ble_eq_true rfl) (Or.inl ⟨_, rfl⟩) ?_
  intro p e s m args below meth c A Q ls S hin hK hP hD hZ hS hA hl hret0
  have hret : ∀ (u : Nat) (x : (Int32 × Int32 × Int32)) (H : Heap) (locs : List Loc) (pc : Nat) (ls' : Array Slot), some x = some r → decode cX2_of pc = .ok (.areturn, 1) → va_P D CL ([(u, .inr (3, [.int x.1, .int x.2.1, .int x.2.2]))]) H → va_D A ([(u, .inr (3, [.int x.1, .int x.2.1, .int x.2.2]))]) → va_S A s.heap H locs → W p l e (rmc 2 1 3 35) s m args below meth c H locs 1 3 Q (F0 m pc ls' [.ref u]) := by
    intro u x H locs pc ls' h9 hdg hP hD hS
    obtain rfl := so_1 h9
    exact hret0 u trivial H locs pc ls' hdg hP hD hS
  have hx := S.1
  have hb := S.2.1
  have hts := S.2.2.2.2
  have hl : lv_has ls 1 [(0, .int p0)] := hl
  unfold fX2_of at hf
  refine g_new hx hb hts S.2.2.2.1 hK hP hD hS hA (ci := 3) in_X2 tyX2 tyX2_ok q1042 q179 q97 rfl (fs := [.int (0 : Int32), .int (0 : Int32), .int (0 : Int32)]) (fun j hj => by rcases (show j = 0 ∨ j = 1 ∨ j = 2 by omega) with rfl | rfl | rfl <;> rfl) (Nat.le_of_ble_eq_true rfl) (Nat.le_of_ble_eq_true rfl) (w1 := fun q => [(q, .inr (3, [.int (0 : Int32), .int (0 : Int32), .int (0 : Int32)]))]) (fun _ => rfl) dX2_of_0 ?_
  clear hP hD hS
  intro q_1 H hP hD hS
  refine lv_dup hx hb dX2_of_3 rfl ?_
  refine lv_iload_n hx hb dX2_of_4 rfl (lv_at hl 0 rfl) ?_
  refine lv_sipush (v := 4096) hx hb dX2_of_5 (by decide) ?_
  refine lv_idiv hx hb dX2_of_8 (by decide) ?_
  refine lv_iload_n hx hb dX2_of_9 rfl (lv_at hl 0 rfl) ?_
  refine lv_bipush (v := 64) hx hb dX2_of_10 (by decide) ?_
  refine lv_idiv hx hb dX2_of_12 (by decide) ?_
  refine lv_bipush (v := 64) hx hb dX2_of_13 (by decide) ?_
  refine lv_irem hx hb dX2_of_15 (by decide) ?_
  refine lv_iload_n hx hb dX2_of_16 rfl (lv_at hl 0 rfl) ?_
  refine lv_bipush (v := 64) hx hb dX2_of_17 (by decide) ?_
  refine lv_irem hx hb dX2_of_19 (by decide) ?_
  obtain ⟨ξ_3, h_2, hf⟩ := b1_some hf
  refine run_v0 (wr := []) (w' := [(q_1, .inr (3, [.int ξ_3.1, .int ξ_3.2.1, .int ξ_3.2.2]))]) (va_runI (As := [.int (p0 / (4096 : Int32)), .int ((p0 / (64 : Int32)) - (p0 / (64 : Int32)) / (64 : Int32) * (64 : Int32)), .int (p0 - p0 / (64 : Int32) * (64 : Int32))]) (rest := [.ref q_1]) S (tX2_init l D d z q_1 K (p0 / (4096 : Int32)) ((p0 / (64 : Int32)) - (p0 / (64 : Int32)) / (64 : Int32) * (64 : Int32)) (p0 - p0 / (64 : Int32) * (64 : Int32)) ((0 : Int32), (0 : Int32), (0 : Int32)) ξ_3 h_2 _) (cwI 3 hts (lw_meth q182) rfl rfl rfl (hts _ q97) (hts _ q1043) (hts _ q181) rfl (by decide +kernel) ⟨(Nat.le_of_ble_eq_true rfl), (Nat.le_of_ble_eq_true rfl)⟩) ⟨Pw.blind, fun U hU hW => Pw.cut (tl := []) hK (by rw [List.append_nil]; exact hP) (by rw [List.append_nil]; exact hD) hZ hS hA [0] rfl rfl hU hW⟩ rfl rfl hl.1 rfl (lv_room (Nat.le_of_ble_eq_true rfl)) dX2_of_20 ⟨(Nat.le_of_ble_eq_true rfl), (Nat.le_of_ble_eq_true rfl)⟩) hP hD hS hA [0] [] [0] rfl rfl rfl rfl (by decide) rfl rfl ?_
  clear hP hD hS
  intro H locs hP hD hS
  clear h_2
  refine W.widen (k := 1) (n := 3) (Nat.le_of_ble_eq_true rfl) (Nat.le_of_ble_eq_true rfl) ?_
  exact hret q_1 _ _ _ _ _ hf dX2_of_23 hP hD hS
