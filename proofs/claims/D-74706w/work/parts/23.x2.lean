/-! Tuner, Circuit, what AntennaTuner asks of them -/
set_option maxRecDepth 100000
def fX6_interpolater_L44 (K : Nat) (x44_2 : Int32) (x44_3 : Int32) (μ : XS) : Option Int64 :=
  if (x44_3 + (1 : Int32)) = (μ.1 49) then
    ga (ix x44_3 16) <|
    some (μ.2.2.2.1 47 x44_3.toNatClampNeg)
  else
    ga (ix x44_3 16) <|
    ga (ix (x44_3 + (1 : Int32)) 16) <|
    ga (ix x44_3 16) <|
    ga (ix x44_3 16) <|
    ga (ix (x44_3 + (1 : Int32)) 16) <|
    ga (ix x44_3 16) <|
    ga (¬ (((μ.2.2.1 46 (x44_3 + (1 : Int32)).toNatClampNeg) - (μ.2.2.1 46 x44_3.toNatClampNeg)).toInt64) = 0) <|
    some ((μ.2.2.2.1 47 x44_3.toNatClampNeg) + ((((μ.2.2.2.1 47 (x44_3 + (1 : Int32)).toNatClampNeg) - (μ.2.2.2.1 47 x44_3.toNatClampNeg)) * ((x44_2 - (μ.2.2.1 46 x44_3.toNatClampNeg)).toInt64)) / (((μ.2.2.1 46 (x44_3 + (1 : Int32)).toNatClampNeg) - (μ.2.2.1 46 x44_3.toNatClampNeg)).toInt64)))
def fX6_interpolater_L16 (K : Nat) : Nat → Int32 → Int32 → XS → Option Int64
  | 0, _, _, _ => none
  | n + 1, x16_2, x16_3, μ =>
    if (μ.1 49) ≤ (x16_3 + (1 : Int32)) then
      fX6_interpolater_L44 K x16_2 x16_3 μ
    else
      ga (ix (x16_3 + (1 : Int32)) 16) <|
      if x16_2 < (μ.2.2.1 46 (x16_3 + (1 : Int32)).toNatClampNeg) then
        fX6_interpolater_L44 K x16_2 x16_3 μ
      else
        fX6_interpolater_L16 K n x16_2 (x16_3 + (1 : Int32)) μ
def fX6_interpolater (K : Nat) (p1 : Int32) (μ : XS) : Option Int64 :=
  if (μ.2.2.1 46 (0 : Int32).toNatClampNeg) ≤ p1 then
    fX6_interpolater_L16 K K p1 (0 : Int32) μ
  else
    some (μ.2.2.2.1 47 (0 : Int32).toNatClampNeg)
set_option maxHeartbeats 4000000 in
set_option maxRecDepth 100000 in
theorem tX6_interpolater (l : Launch) (D : va_G) (d : Nat → ClassId) (z : ZT) (b : Nat → Nat) (K : Nat) (p1 : Int32) (μ : XS) (r : Int64) (hf : fX6_interpolater K p1 μ = some r) : CJ l yX6_interpolate (ws_ yX6_interpolate cX6_interpolate 4 (Option.some Jvm.ClassFile.FieldType.long)) (rmc 0 0 0 0) D d z [.ref (b 7), .ref (b 9), .int p1] (TP d b μ) r (TP d b μ) := by
  refine CJ.of2 (own := RX6) rfl (by decide) (Nat.le_of_ble_eq_true rfl) ?_
  intro p e s m args below meth c A Q ls S hin hK hP hD hZ hS hA hl hret0
  have hret : ∀ (x : Int64) (H : Heap) (locs : List Loc) (pc : Nat) (ls' : Array Slot), some x = some r → decode cX6_interpolate pc = .ok (.lreturn, 1) → va_P D CL (TP d b μ) H → va_D A (TP d b μ) → va_S A s.heap H locs → W p l e (rmc 0 0 0 0) s m args below meth c H locs 0 0 Q (F0 m pc ls' [.long x]) := by
    intro x H locs pc ls' h9 hdg hP hD hS
    obtain rfl := so_1 h9
    exact hret0 H locs pc ls' hdg hP hD hS
  have hx := S.1
  have hb := S.2.1
  have hts := S.2.2.2.2
  have hl : lv_has ls 4 [(0, .ref (b 7)), (1, .ref (b 9)), (2, .int p1)] := hl
  have L44 : ∀ (x44_2 : Int32) (x44_3 : Int32) (H : Heap) (locs : List Loc) (ls : Array Slot), fX6_interpolater_L44 K x44_2 x44_3 μ = some r → va_P D CL (TP d b μ) H → va_D A (TP d b μ) → va_S A s.heap H locs → lv_has ls 4 [(0, .ref (b 7)), (1, .ref (b 9)), (2, .int x44_2), (3, .int x44_3)] → W p l e (rmc 0 0 0 0) s m args below meth c H locs 0 0 Q (F0 m 44 ls []) := by
    intro x44_2 x44_3 H locs ls hf hP hD hS hl
    unfold fX6_interpolater_L44 at hf
    refine lv_iload_n hx hb dX6_interpolate_44 rfl (lv_at hl 3 rfl) ?_
    refine lv_iconst (v := 1) hx hb dX6_interpolate_45 (by decide) ?_
    refine lv_iadd hx hb dX6_interpolate_46 ?_
    refine lv_aload_n hx hb dX6_interpolate_47 rfl (lv_at hl 0 rfl) ?_
    refine g_get hx hb hts S.2.2.2.1 hK hP in_X6 0 rfl rfl 9 (by decide) q372 (fun _ h9 => h9) (v := .int (μ.1 49)) rfl dX6_interpolate_48 ?_
    refine lv_icmp_ne (tgt := 58) hx hb dX6_interpolate_51 (by decide) (fun c_4 => ?_) (fun c_4 => ?_)
    · replace hf := it_f hf c_4
      clear c_4
      refine lv_aload_n hx hb dX6_interpolate_58 rfl (lv_at hl 1 rfl) ?_
      refine lv_iload_n hx hb dX6_interpolate_59 rfl (lv_at hl 3 rfl) ?_
      obtain ⟨g_5, hf⟩ := ga_some hf
      refine g_lald hx hb hK hP 2 rfl (ix_in g_5) dX6_interpolate_60 ?_
      refine lv_aload_n hx hb dX6_interpolate_61 rfl (lv_at hl 1 rfl) ?_
      refine lv_iload_n hx hb dX6_interpolate_62 rfl (lv_at hl 3 rfl) ?_
      refine lv_iconst (v := 1) hx hb dX6_interpolate_63 (by decide) ?_
      refine lv_iadd hx hb dX6_interpolate_64 ?_
      obtain ⟨g_6, hf⟩ := ga_some hf
      refine g_lald hx hb hK hP 2 rfl (ix_in g_6) dX6_interpolate_65 ?_
      refine lv_aload_n hx hb dX6_interpolate_66 rfl (lv_at hl 1 rfl) ?_
      refine lv_iload_n hx hb dX6_interpolate_67 rfl (lv_at hl 3 rfl) ?_
      obtain ⟨g_7, hf⟩ := ga_some hf
      refine g_lald hx hb hK hP 2 rfl (ix_in g_7) dX6_interpolate_68 ?_
      refine lv_lsub hx hb dX6_interpolate_69 ?_
      refine lv_iload_n hx hb dX6_interpolate_70 rfl (lv_at hl 2 rfl) ?_
      refine lv_aload_n hx hb dX6_interpolate_71 rfl (lv_at hl 0 rfl) ?_
      refine g_get hx hb hts S.2.2.2.1 hK hP in_X6 0 rfl rfl 6 (by decide) q365 (fun _ h9 => h9) (v := .ref (b 8)) rfl dX6_interpolate_72 ?_
      refine lv_iload_n hx hb dX6_interpolate_75 rfl (lv_at hl 3 rfl) ?_
      obtain ⟨g_8, hf⟩ := ga_some hf
      refine g_iald hx hb hK hP 1 rfl (ix_in g_8) dX6_interpolate_76 ?_
      refine lv_isub hx hb dX6_interpolate_77 ?_
      refine lv_i2l (v := (x44_2 - (μ.2.2.1 46 x44_3.toNatClampNeg)).toInt64) hx hb dX6_interpolate_78 rfl ?_
      refine lv_lmul hx hb dX6_interpolate_79 ?_
      refine lv_aload_n hx hb dX6_interpolate_80 rfl (lv_at hl 0 rfl) ?_
      refine g_get hx hb hts S.2.2.2.1 hK hP in_X6 0 rfl rfl 6 (by decide) q365 (fun _ h9 => h9) (v := .ref (b 8)) rfl dX6_interpolate_81 ?_
      refine lv_iload_n hx hb dX6_interpolate_84 rfl (lv_at hl 3 rfl) ?_
      refine lv_iconst (v := 1) hx hb dX6_interpolate_85 (by decide) ?_
      refine lv_iadd hx hb dX6_interpolate_86 ?_
      obtain ⟨g_9, hf⟩ := ga_some hf
      refine g_iald hx hb hK hP 1 rfl (ix_in g_9) dX6_interpolate_87 ?_
      refine lv_aload_n hx hb dX6_interpolate_88 rfl (lv_at hl 0 rfl) ?_
      refine g_get hx hb hts S.2.2.2.1 hK hP in_X6 0 rfl rfl 6 (by decide) q365 (fun _ h9 => h9) (v := .ref (b 8)) rfl dX6_interpolate_89 ?_
      refine lv_iload_n hx hb dX6_interpolate_92 rfl (lv_at hl 3 rfl) ?_
      obtain ⟨g_10, hf⟩ := ga_some hf
      refine g_iald hx hb hK hP 1 rfl (ix_in g_10) dX6_interpolate_93 ?_
      refine lv_isub hx hb dX6_interpolate_94 ?_
      refine lv_i2l (v := ((μ.2.2.1 46 (x44_3 + (1 : Int32)).toNatClampNeg) - (μ.2.2.1 46 x44_3.toNatClampNeg)).toInt64) hx hb dX6_interpolate_95 rfl ?_
      obtain ⟨g_11, hf⟩ := ga_some hf
      refine lv_ldiv hx hb dX6_interpolate_96 g_11 ?_
      refine lv_ladd hx hb dX6_interpolate_97 ?_
      refine W.widen (k := 0) (n := 0) (Nat.le_of_ble_eq_true rfl) (Nat.le_of_ble_eq_true rfl) ?_
      exact hret _ _ _ _ _ hf dX6_interpolate_98 hP hD hS
    · replace hf := it_t hf c_4
      clear c_4
      refine lv_aload_n hx hb dX6_interpolate_54 rfl (lv_at hl 1 rfl) ?_
      refine lv_iload_n hx hb dX6_interpolate_55 rfl (lv_at hl 3 rfl) ?_
      obtain ⟨g_12, hf⟩ := ga_some hf
      refine g_lald hx hb hK hP 2 rfl (ix_in g_12) dX6_interpolate_56 ?_
      refine W.widen (k := 0) (n := 0) (Nat.le_of_ble_eq_true rfl) (Nat.le_of_ble_eq_true rfl) ?_
      exact hret _ _ _ _ _ hf dX6_interpolate_57 hP hD hS
  have L16 : ∀ (n : Nat) (x16_2 : Int32) (x16_3 : Int32) (H : Heap) (locs : List Loc) (ls : Array Slot), fX6_interpolater_L16 K n x16_2 x16_3 μ = some r → va_P D CL (TP d b μ) H → va_D A (TP d b μ) → va_S A s.heap H locs → lv_has ls 4 [(0, .ref (b 7)), (1, .ref (b 9)), (2, .int x16_2), (3, .int x16_3)] → W p l e (rmc 0 0 0 0) s m args below meth c H locs 0 0 Q (F0 m 16 ls []) := by
    intro n
    induction n with
    | zero =>
      intro x16_2 x16_3 H locs ls hf hP hD hS hl
      rw [fX6_interpolater_L16] at hf
      cases hf
    | succ n ih =>
      intro x16_2 x16_3 H locs ls hf hP hD hS hl
      rw [fX6_interpolater_L16] at hf
      refine lv_iload_n hx hb dX6_interpolate_16 rfl (lv_at hl 3 rfl) ?_
      refine lv_iconst (v := 1) hx hb dX6_interpolate_17 (by decide) ?_
      refine lv_iadd hx hb dX6_interpolate_18 ?_
      refine lv_aload_n hx hb dX6_interpolate_19 rfl (lv_at hl 0 rfl) ?_
      refine g_get hx hb hts S.2.2.2.1 hK hP in_X6 0 rfl rfl 9 (by decide) q372 (fun _ h9 => h9) (v := .int (μ.1 49)) rfl dX6_interpolate_20 ?_
      refine lv_icmp_ge (tgt := 44) hx hb dX6_interpolate_23 (by decide) (fun c_3 => ?_) (fun c_3 => ?_)
      · replace hf := it_t hf c_3
        clear c_3
        exact L44 x16_2 x16_3 _ _ _ hf hP hD hS (lv_sub hl [0, 1, 2, 3] rfl)
      · replace hf := it_f hf c_3
        clear c_3
        refine lv_aload_n hx hb dX6_interpolate_26 rfl (lv_at hl 0 rfl) ?_
        refine g_get hx hb hts S.2.2.2.1 hK hP in_X6 0 rfl rfl 6 (by decide) q365 (fun _ h9 => h9) (v := .ref (b 8)) rfl dX6_interpolate_27 ?_
        refine lv_iload_n hx hb dX6_interpolate_30 rfl (lv_at hl 3 rfl) ?_
        refine lv_iconst (v := 1) hx hb dX6_interpolate_31 (by decide) ?_
        refine lv_iadd hx hb dX6_interpolate_32 ?_
        obtain ⟨g_13, hf⟩ := ga_some hf
        refine g_iald hx hb hK hP 1 rfl (ix_in g_13) dX6_interpolate_33 ?_
        refine lv_iload_n hx hb dX6_interpolate_34 rfl (lv_at hl 2 rfl) ?_
        refine lv_icmp_gt (tgt := 44) hx hb dX6_interpolate_35 (by decide) (fun c_14 => ?_) (fun c_14 => ?_)
        · replace hf := it_t hf c_14
          clear c_14
          exact L44 x16_2 x16_3 _ _ _ hf hP hD hS (lv_sub hl [0, 1, 2, 3] rfl)
        · replace hf := it_f hf c_14
          clear c_14
          refine lv_iinc (v := x16_3 + (1 : Int32)) (lv' := [(3, .int (x16_3 + (1 : Int32))), (0, .ref (b 7)), (1, .ref (b 9)), (2, .int x16_2)]) hx hb dX6_interpolate_38 hl (k := 3) rfl rfl (by decide) rfl (fun ls hl => ?_)
          refine lv_goto (tgt := 16) hx hb dX6_interpolate_41 (by decide) ?_
          exact ih x16_2 (x16_3 + (1 : Int32)) _ _ _ hf hP hD hS (lv_sub hl [1, 2, 3, 0] rfl)
  unfold fX6_interpolater at hf
  refine lv_iload_n hx hb dX6_interpolate_0 rfl (lv_at hl 2 rfl) ?_
  refine lv_aload_n hx hb dX6_interpolate_1 rfl (lv_at hl 0 rfl) ?_
  refine g_get hx hb hts S.2.2.2.1 hK hP in_X6 0 rfl rfl 6 (by decide) q365 (fun _ h9 => h9) (v := .ref (b 8)) rfl dX6_interpolate_2 ?_
  refine lv_iconst (v := 0) hx hb dX6_interpolate_5 (by decide) ?_
  refine g_iald hx hb hK hP 1 rfl (ix_in (by decide)) dX6_interpolate_6 ?_
  refine lv_icmp_ge (tgt := 14) hx hb dX6_interpolate_7 (by decide) (fun c_2 => ?_) (fun c_2 => ?_)
  · replace hf := it_t hf c_2
    clear c_2
    refine lv_iconst (v := 0) hx hb dX6_interpolate_14 (by decide) ?_
    refine lv_istore_n (lv' := [(3, .int (0 : Int32)), (0, .ref (b 7)), (1, .ref (b 9)), (2, .int p1)]) hx hb dX6_interpolate_15 rfl hl (by decide) rfl (fun ls hl => ?_)
    exact L16 K p1 (0 : Int32) _ _ _ hf hP hD hS (lv_sub hl [1, 2, 3, 0] rfl)
  · replace hf := it_f hf c_2
    clear c_2
    refine lv_aload_n hx hb dX6_interpolate_10 rfl (lv_at hl 1 rfl) ?_
    refine lv_iconst (v := 0) hx hb dX6_interpolate_11 (by decide) ?_
    refine g_lald hx hb hK hP 2 rfl (ix_in (by decide)) dX6_interpolate_12 ?_
    refine W.widen (k := 0) (n := 0) (Nat.le_of_ble_eq_true rfl) (Nat.le_of_ble_eq_true rfl) ?_
    exact hret _ _ _ _ _ hf dX6_interpolate_13 hP hD hS
def fX6_interpolatex_L44 (K : Nat) (x44_2 : Int32) (x44_3 : Int32) (μ : XS) : Option Int64 :=
  if (x44_3 + (1 : Int32)) = (μ.1 49) then
    ga (ix x44_3 16) <|
    some (μ.2.2.2.1 48 x44_3.toNatClampNeg)
  else
    ga (ix x44_3 16) <|
    ga (ix (x44_3 + (1 : Int32)) 16) <|
    ga (ix x44_3 16) <|
    ga (ix x44_3 16) <|
    ga (ix (x44_3 + (1 : Int32)) 16) <|
    ga (ix x44_3 16) <|
    ga (¬ (((μ.2.2.1 46 (x44_3 + (1 : Int32)).toNatClampNeg) - (μ.2.2.1 46 x44_3.toNatClampNeg)).toInt64) = 0) <|
    some ((μ.2.2.2.1 48 x44_3.toNatClampNeg) + ((((μ.2.2.2.1 48 (x44_3 + (1 : Int32)).toNatClampNeg) - (μ.2.2.2.1 48 x44_3.toNatClampNeg)) * ((x44_2 - (μ.2.2.1 46 x44_3.toNatClampNeg)).toInt64)) / (((μ.2.2.1 46 (x44_3 + (1 : Int32)).toNatClampNeg) - (μ.2.2.1 46 x44_3.toNatClampNeg)).toInt64)))
def fX6_interpolatex_L16 (K : Nat) : Nat → Int32 → Int32 → XS → Option Int64
  | 0, _, _, _ => none
  | n + 1, x16_2, x16_3, μ =>
    if (μ.1 49) ≤ (x16_3 + (1 : Int32)) then
      fX6_interpolatex_L44 K x16_2 x16_3 μ
    else
      ga (ix (x16_3 + (1 : Int32)) 16) <|
      if x16_2 < (μ.2.2.1 46 (x16_3 + (1 : Int32)).toNatClampNeg) then
        fX6_interpolatex_L44 K x16_2 x16_3 μ
      else
        fX6_interpolatex_L16 K n x16_2 (x16_3 + (1 : Int32)) μ
def fX6_interpolatex (K : Nat) (p1 : Int32) (μ : XS) : Option Int64 :=
  if (μ.2.2.1 46 (0 : Int32).toNatClampNeg) ≤ p1 then
    fX6_interpolatex_L16 K K p1 (0 : Int32) μ
  else
    some (μ.2.2.2.1 48 (0 : Int32).toNatClampNeg)
set_option maxHeartbeats 4000000 in
set_option maxRecDepth 100000 in
theorem tX6_interpolatex (l : Launch) (D : va_G) (d : Nat → ClassId) (z : ZT) (b : Nat → Nat) (K : Nat) (p1 : Int32) (μ : XS) (r : Int64) (hf : fX6_interpolatex K p1 μ = some r) : CJ l yX6_interpolate (ws_ yX6_interpolate cX6_interpolate 4 (Option.some Jvm.ClassFile.FieldType.long)) (rmc 0 0 0 0) D d z [.ref (b 7), .ref (b 10), .int p1] (TP d b μ) r (TP d b μ) := by
  refine CJ.of2 (own := RX6) rfl (by decide) (Nat.le_of_ble_eq_true rfl) ?_
  intro p e s m args below meth c A Q ls S hin hK hP hD hZ hS hA hl hret0
  have hret : ∀ (x : Int64) (H : Heap) (locs : List Loc) (pc : Nat) (ls' : Array Slot), some x = some r → decode cX6_interpolate pc = .ok (.lreturn, 1) → va_P D CL (TP d b μ) H → va_D A (TP d b μ) → va_S A s.heap H locs → W p l e (rmc 0 0 0 0) s m args below meth c H locs 0 0 Q (F0 m pc ls' [.long x]) := by
    intro x H locs pc ls' h9 hdg hP hD hS
    obtain rfl := so_1 h9
    exact hret0 H locs pc ls' hdg hP hD hS
  have hx := S.1
  have hb := S.2.1
  have hts := S.2.2.2.2
  have hl : lv_has ls 4 [(0, .ref (b 7)), (1, .ref (b 10)), (2, .int p1)] := hl
  have L44 : ∀ (x44_2 : Int32) (x44_3 : Int32) (H : Heap) (locs : List Loc) (ls : Array Slot), fX6_interpolatex_L44 K x44_2 x44_3 μ = some r → va_P D CL (TP d b μ) H → va_D A (TP d b μ) → va_S A s.heap H locs → lv_has ls 4 [(0, .ref (b 7)), (1, .ref (b 10)), (2, .int x44_2), (3, .int x44_3)] → W p l e (rmc 0 0 0 0) s m args below meth c H locs 0 0 Q (F0 m 44 ls []) := by
    intro x44_2 x44_3 H locs ls hf hP hD hS hl
    unfold fX6_interpolatex_L44 at hf
    refine lv_iload_n hx hb dX6_interpolate_44 rfl (lv_at hl 3 rfl) ?_
    refine lv_iconst (v := 1) hx hb dX6_interpolate_45 (by decide) ?_
    refine lv_iadd hx hb dX6_interpolate_46 ?_
    refine lv_aload_n hx hb dX6_interpolate_47 rfl (lv_at hl 0 rfl) ?_
    refine g_get hx hb hts S.2.2.2.1 hK hP in_X6 0 rfl rfl 9 (by decide) q372 (fun _ h9 => h9) (v := .int (μ.1 49)) rfl dX6_interpolate_48 ?_
    refine lv_icmp_ne (tgt := 58) hx hb dX6_interpolate_51 (by decide) (fun c_4 => ?_) (fun c_4 => ?_)
    · replace hf := it_f hf c_4
      clear c_4
      refine lv_aload_n hx hb dX6_interpolate_58 rfl (lv_at hl 1 rfl) ?_
      refine lv_iload_n hx hb dX6_interpolate_59 rfl (lv_at hl 3 rfl) ?_
      obtain ⟨g_5, hf⟩ := ga_some hf
      refine g_lald hx hb hK hP 3 rfl (ix_in g_5) dX6_interpolate_60 ?_
      refine lv_aload_n hx hb dX6_interpolate_61 rfl (lv_at hl 1 rfl) ?_
      refine lv_iload_n hx hb dX6_interpolate_62 rfl (lv_at hl 3 rfl) ?_
      refine lv_iconst (v := 1) hx hb dX6_interpolate_63 (by decide) ?_
      refine lv_iadd hx hb dX6_interpolate_64 ?_
      obtain ⟨g_6, hf⟩ := ga_some hf
      refine g_lald hx hb hK hP 3 rfl (ix_in g_6) dX6_interpolate_65 ?_
      refine lv_aload_n hx hb dX6_interpolate_66 rfl (lv_at hl 1 rfl) ?_
      refine lv_iload_n hx hb dX6_interpolate_67 rfl (lv_at hl 3 rfl) ?_
      obtain ⟨g_7, hf⟩ := ga_some hf
      refine g_lald hx hb hK hP 3 rfl (ix_in g_7) dX6_interpolate_68 ?_
      refine lv_lsub hx hb dX6_interpolate_69 ?_
      refine lv_iload_n hx hb dX6_interpolate_70 rfl (lv_at hl 2 rfl) ?_
      refine lv_aload_n hx hb dX6_interpolate_71 rfl (lv_at hl 0 rfl) ?_
      refine g_get hx hb hts S.2.2.2.1 hK hP in_X6 0 rfl rfl 6 (by decide) q365 (fun _ h9 => h9) (v := .ref (b 8)) rfl dX6_interpolate_72 ?_
      refine lv_iload_n hx hb dX6_interpolate_75 rfl (lv_at hl 3 rfl) ?_
      obtain ⟨g_8, hf⟩ := ga_some hf
      refine g_iald hx hb hK hP 1 rfl (ix_in g_8) dX6_interpolate_76 ?_
      refine lv_isub hx hb dX6_interpolate_77 ?_
      refine lv_i2l (v := (x44_2 - (μ.2.2.1 46 x44_3.toNatClampNeg)).toInt64) hx hb dX6_interpolate_78 rfl ?_
      refine lv_lmul hx hb dX6_interpolate_79 ?_
      refine lv_aload_n hx hb dX6_interpolate_80 rfl (lv_at hl 0 rfl) ?_
      refine g_get hx hb hts S.2.2.2.1 hK hP in_X6 0 rfl rfl 6 (by decide) q365 (fun _ h9 => h9) (v := .ref (b 8)) rfl dX6_interpolate_81 ?_
      refine lv_iload_n hx hb dX6_interpolate_84 rfl (lv_at hl 3 rfl) ?_
      refine lv_iconst (v := 1) hx hb dX6_interpolate_85 (by decide) ?_
      refine lv_iadd hx hb dX6_interpolate_86 ?_
      obtain ⟨g_9, hf⟩ := ga_some hf
      refine g_iald hx hb hK hP 1 rfl (ix_in g_9) dX6_interpolate_87 ?_
      refine lv_aload_n hx hb dX6_interpolate_88 rfl (lv_at hl 0 rfl) ?_
      refine g_get hx hb hts S.2.2.2.1 hK hP in_X6 0 rfl rfl 6 (by decide) q365 (fun _ h9 => h9) (v := .ref (b 8)) rfl dX6_interpolate_89 ?_
      refine lv_iload_n hx hb dX6_interpolate_92 rfl (lv_at hl 3 rfl) ?_
      obtain ⟨g_10, hf⟩ := ga_some hf
      refine g_iald hx hb hK hP 1 rfl (ix_in g_10) dX6_interpolate_93 ?_
      refine lv_isub hx hb dX6_interpolate_94 ?_
      refine lv_i2l (v := ((μ.2.2.1 46 (x44_3 + (1 : Int32)).toNatClampNeg) - (μ.2.2.1 46 x44_3.toNatClampNeg)).toInt64) hx hb dX6_interpolate_95 rfl ?_
      obtain ⟨g_11, hf⟩ := ga_some hf
      refine lv_ldiv hx hb dX6_interpolate_96 g_11 ?_
      refine lv_ladd hx hb dX6_interpolate_97 ?_
      refine W.widen (k := 0) (n := 0) (Nat.le_of_ble_eq_true rfl) (Nat.le_of_ble_eq_true rfl) ?_
      exact hret _ _ _ _ _ hf dX6_interpolate_98 hP hD hS
    · replace hf := it_t hf c_4
      clear c_4
      refine lv_aload_n hx hb dX6_interpolate_54 rfl (lv_at hl 1 rfl) ?_
      refine lv_iload_n hx hb dX6_interpolate_55 rfl (lv_at hl 3 rfl) ?_
      obtain ⟨g_12, hf⟩ := ga_some hf
      refine g_lald hx hb hK hP 3 rfl (ix_in g_12) dX6_interpolate_56 ?_
      refine W.widen (k := 0) (n := 0) (Nat.le_of_ble_eq_true rfl) (Nat.le_of_ble_eq_true rfl) ?_
      exact hret _ _ _ _ _ hf dX6_interpolate_57 hP hD hS
  have L16 : ∀ (n : Nat) (x16_2 : Int32) (x16_3 : Int32) (H : Heap) (locs : List Loc) (ls : Array Slot), fX6_interpolatex_L16 K n x16_2 x16_3 μ = some r → va_P D CL (TP d b μ) H → va_D A (TP d b μ) → va_S A s.heap H locs → lv_has ls 4 [(0, .ref (b 7)), (1, .ref (b 10)), (2, .int x16_2), (3, .int x16_3)] → W p l e (rmc 0 0 0 0) s m args below meth c H locs 0 0 Q (F0 m 16 ls []) := by
    intro n
    induction n with
    | zero =>
      intro x16_2 x16_3 H locs ls hf hP hD hS hl
      rw [fX6_interpolatex_L16] at hf
      cases hf
    | succ n ih =>
      intro x16_2 x16_3 H locs ls hf hP hD hS hl
      rw [fX6_interpolatex_L16] at hf
      refine lv_iload_n hx hb dX6_interpolate_16 rfl (lv_at hl 3 rfl) ?_
      refine lv_iconst (v := 1) hx hb dX6_interpolate_17 (by decide) ?_
      refine lv_iadd hx hb dX6_interpolate_18 ?_
      refine lv_aload_n hx hb dX6_interpolate_19 rfl (lv_at hl 0 rfl) ?_
      refine g_get hx hb hts S.2.2.2.1 hK hP in_X6 0 rfl rfl 9 (by decide) q372 (fun _ h9 => h9) (v := .int (μ.1 49)) rfl dX6_interpolate_20 ?_
      refine lv_icmp_ge (tgt := 44) hx hb dX6_interpolate_23 (by decide) (fun c_3 => ?_) (fun c_3 => ?_)
      · replace hf := it_t hf c_3
        clear c_3
        exact L44 x16_2 x16_3 _ _ _ hf hP hD hS (lv_sub hl [0, 1, 2, 3] rfl)
      · replace hf := it_f hf c_3
        clear c_3
        refine lv_aload_n hx hb dX6_interpolate_26 rfl (lv_at hl 0 rfl) ?_
        refine g_get hx hb hts S.2.2.2.1 hK hP in_X6 0 rfl rfl 6 (by decide) q365 (fun _ h9 => h9) (v := .ref (b 8)) rfl dX6_interpolate_27 ?_
        refine lv_iload_n hx hb dX6_interpolate_30 rfl (lv_at hl 3 rfl) ?_
        refine lv_iconst (v := 1) hx hb dX6_interpolate_31 (by decide) ?_
        refine lv_iadd hx hb dX6_interpolate_32 ?_
        obtain ⟨g_13, hf⟩ := ga_some hf
        refine g_iald hx hb hK hP 1 rfl (ix_in g_13) dX6_interpolate_33 ?_
        refine lv_iload_n hx hb dX6_interpolate_34 rfl (lv_at hl 2 rfl) ?_
        refine lv_icmp_gt (tgt := 44) hx hb dX6_interpolate_35 (by decide) (fun c_14 => ?_) (fun c_14 => ?_)
        · replace hf := it_t hf c_14
          clear c_14
          exact L44 x16_2 x16_3 _ _ _ hf hP hD hS (lv_sub hl [0, 1, 2, 3] rfl)
        · replace hf := it_f hf c_14
          clear c_14
          refine lv_iinc (v := x16_3 + (1 : Int32)) (lv' := [(3, .int (x16_3 + (1 : Int32))), (0, .ref (b 7)), (1, .ref (b 10)), (2, .int x16_2)]) hx hb dX6_interpolate_38 hl (k := 3) rfl rfl (by decide) rfl (fun ls hl => ?_)
          refine lv_goto (tgt := 16) hx hb dX6_interpolate_41 (by decide) ?_
          exact ih x16_2 (x16_3 + (1 : Int32)) _ _ _ hf hP hD hS (lv_sub hl [1, 2, 3, 0] rfl)
  unfold fX6_interpolatex at hf
  refine lv_iload_n hx hb dX6_interpolate_0 rfl (lv_at hl 2 rfl) ?_
  refine lv_aload_n hx hb dX6_interpolate_1 rfl (lv_at hl 0 rfl) ?_
  refine g_get hx hb hts S.2.2.2.1 hK hP in_X6 0 rfl rfl 6 (by decide) q365 (fun _ h9 => h9) (v := .ref (b 8)) rfl dX6_interpolate_2 ?_
  refine lv_iconst (v := 0) hx hb dX6_interpolate_5 (by decide) ?_
  refine g_iald hx hb hK hP 1 rfl (ix_in (by decide)) dX6_interpolate_6 ?_
  refine lv_icmp_ge (tgt := 14) hx hb dX6_interpolate_7 (by decide) (fun c_2 => ?_) (fun c_2 => ?_)
  · replace hf := it_t hf c_2
    clear c_2
    refine lv_iconst (v := 0) hx hb dX6_interpolate_14 (by decide) ?_
    refine lv_istore_n (lv' := [(3, .int (0 : Int32)), (0, .ref (b 7)), (1, .ref (b 10)), (2, .int p1)]) hx hb dX6_interpolate_15 rfl hl (by decide) rfl (fun ls hl => ?_)
    exact L16 K p1 (0 : Int32) _ _ _ hf hP hD hS (lv_sub hl [1, 2, 3, 0] rfl)
  · replace hf := it_f hf c_2
    clear c_2
    refine lv_aload_n hx hb dX6_interpolate_10 rfl (lv_at hl 1 rfl) ?_
    refine lv_iconst (v := 0) hx hb dX6_interpolate_11 (by decide) ?_
    refine g_lald hx hb hK hP 3 rfl (ix_in (by decide)) dX6_interpolate_12 ?_
    refine W.widen (k := 0) (n := 0) (Nat.le_of_ble_eq_true rfl) (Nat.le_of_ble_eq_true rfl) ?_
    exact hret _ _ _ _ _ hf dX6_interpolate_13 hP hD hS
def fX6_resistance (K : Nat) (p0 : Int32) (μ : XS) : Option Int64 :=
  b1 (fX6_interpolater K p0 μ) fun r_2 =>
  some r_2
set_option maxHeartbeats 4000000 in
set_option maxRecDepth 100000 in
theorem tX6_resistance (l : Launch) (D : va_G) (d : Nat → ClassId) (z : ZT) (b : Nat → Nat) (K : Nat) (p0 : Int32) (μ : XS) (r : Int64) (hf : fX6_resistance K p0 μ = some r) : CJ l yX6_resistance (ws_ yX6_resistance cX6_resistance 2 (Option.some Jvm.ClassFile.FieldType.long)) (rmc 1 0 0 23) D d z [.ref (b 7), .int p0] (TP d b μ) r (TP d b μ) := by
  refine CJ.of2 (own := RX6) rfl (by decide) (Nat.le_of_ble_eq_true rfl) ?_
  intro p e s m args below meth c A Q ls S hin hK hP hD hZ hS hA hl hret0
  have hret : ∀ (x : Int64) (H : Heap) (locs : List Loc) (pc : Nat) (ls' : Array Slot), some x = some r → decode cX6_resistance pc = .ok (.lreturn, 1) → va_P D CL (TP d b μ) H → va_D A (TP d b μ) → va_S A s.heap H locs → W p l e (rmc 1 0 0 23) s m args below meth c H locs 0 0 Q (F0 m pc ls' [.long x]) := by
    intro x H locs pc ls' h9 hdg hP hD hS
    obtain rfl := so_1 h9
    exact hret0 H locs pc ls' hdg hP hD hS
  have hx := S.1
  have hb := S.2.1
  have hts := S.2.2.2.2
  have hl : lv_has ls 2 [(0, .ref (b 7)), (1, .int p0)] := hl
  unfold fX6_resistance at hf
  refine lv_aload_n hx hb dX6_resistance_0 rfl (lv_at hl 0 rfl) ?_
  refine lv_aload_n hx hb dX6_resistance_1 rfl (lv_at hl 0 rfl) ?_
  refine g_get hx hb hts S.2.2.2.1 hK hP in_X6 0 rfl rfl 7 (by decide) q368 (fun _ h9 => h9) (v := .ref (b 9)) rfl dX6_resistance_2 ?_
  refine lv_iload_n hx hb dX6_resistance_5 rfl (lv_at hl 1 rfl) ?_
  obtain ⟨r_2, h_1, hf⟩ := b1_some hf
  refine runW_j (va_runV (As := [.ref (b 9), .int p0]) (rest := []) S (tX6_interpolater l D d z b K p0 μ r_2 h_1 _) (cwV 2 hts (lw_V q868 q870 qs19 q103 q871) rfl rfl rfl (by decide +kernel) ⟨(Nat.le_of_ble_eq_true rfl), (Nat.le_of_ble_eq_true rfl)⟩) ⟨Pw.blind, (va_recv hK.1 hP (ci := 6) (q0 := 0) rfl rfl), fun U hU hW => Pw.at hK hP hD hZ hS hA hU hW⟩ rfl rfl hl.1 rfl (lv_room (Nat.le_of_ble_eq_true rfl)) dX6_resistance_6 ⟨(Nat.le_of_ble_eq_true rfl), (Nat.le_of_ble_eq_true rfl)⟩) hP hD hS hA ?_
  clear hP hD hS
  intro H locs hP hD hS
  clear h_1
  refine W.widen (k := 0) (n := 0) (Nat.le_of_ble_eq_true rfl) (Nat.le_of_ble_eq_true rfl) ?_
  exact hret _ _ _ _ _ hf dX6_resistance_9 hP hD hS
def fX6_reactance (K : Nat) (p0 : Int32) (μ : XS) : Option Int64 :=
  b1 (fX6_interpolatex K p0 μ) fun r_2 =>
  some r_2
set_option maxHeartbeats 4000000 in
set_option maxRecDepth 100000 in
theorem tX6_reactance (l : Launch) (D : va_G) (d : Nat → ClassId) (z : ZT) (b : Nat → Nat) (K : Nat) (p0 : Int32) (μ : XS) (r : Int64) (hf : fX6_reactance K p0 μ = some r) : CJ l yX6_reactance (ws_ yX6_reactance cX6_reactance 2 (Option.some Jvm.ClassFile.FieldType.long)) (rmc 1 0 0 23) D d z [.ref (b 7), .int p0] (TP d b μ) r (TP d b μ) := by
  refine CJ.of2 (own := RX6) rfl (by decide) (Nat.le_of_ble_eq_true rfl) ?_
  intro p e s m args below meth c A Q ls S hin hK hP hD hZ hS hA hl hret0
  have hret : ∀ (x : Int64) (H : Heap) (locs : List Loc) (pc : Nat) (ls' : Array Slot), some x = some r → decode cX6_reactance pc = .ok (.lreturn, 1) → va_P D CL (TP d b μ) H → va_D A (TP d b μ) → va_S A s.heap H locs → W p l e (rmc 1 0 0 23) s m args below meth c H locs 0 0 Q (F0 m pc ls' [.long x]) := by
    intro x H locs pc ls' h9 hdg hP hD hS
    obtain rfl := so_1 h9
    exact hret0 H locs pc ls' hdg hP hD hS
  have hx := S.1
  have hb := S.2.1
  have hts := S.2.2.2.2
  have hl : lv_has ls 2 [(0, .ref (b 7)), (1, .int p0)] := hl
  unfold fX6_reactance at hf
  refine lv_aload_n hx hb dX6_reactance_0 rfl (lv_at hl 0 rfl) ?_
  refine lv_aload_n hx hb dX6_reactance_1 rfl (lv_at hl 0 rfl) ?_
  refine g_get hx hb hts S.2.2.2.1 hK hP in_X6 0 rfl rfl 8 (by decide) q370 (fun _ h9 => h9) (v := .ref (b 10)) rfl dX6_reactance_2 ?_
  refine lv_iload_n hx hb dX6_reactance_5 rfl (lv_at hl 1 rfl) ?_
  obtain ⟨r_2, h_1, hf⟩ := b1_some hf
  refine runW_j (va_runV (As := [.ref (b 10), .int p0]) (rest := []) S (tX6_interpolatex l D d z b K p0 μ r_2 h_1 _) (cwV 2 hts (lw_V q868 q870 qs19 q103 q871) rfl rfl rfl (by decide +kernel) ⟨(Nat.le_of_ble_eq_true rfl), (Nat.le_of_ble_eq_true rfl)⟩) ⟨Pw.blind, (va_recv hK.1 hP (ci := 6) (q0 := 0) rfl rfl), fun U hU hW => Pw.at hK hP hD hZ hS hA hU hW⟩ rfl rfl hl.1 rfl (lv_room (Nat.le_of_ble_eq_true rfl)) dX6_reactance_6 ⟨(Nat.le_of_ble_eq_true rfl), (Nat.le_of_ble_eq_true rfl)⟩) hP hD hS hA ?_
  clear hP hD hS
  intro H locs hP hD hS
  clear h_1
  refine W.widen (k := 0) (n := 0) (Nat.le_of_ble_eq_true rfl) (Nat.le_of_ble_eq_true rfl) ?_
  exact hret _ _ _ _ _ hf dX6_reactance_9 hP hD hS
def fX6_bandOf_L2 (K : Nat) : Nat → Int32 → Int32 → XS → Option Int32
  | 0, _, _, _ => none
  | n + 1, x2_1, x2_2, μ =>
    if (μ.1 52) ≤ x2_2 then
      some (-2 : Int32)
    else
      ga (ix x2_2 8) <|
      ga (ix x2_2 8) <|
      b1 (fX0_isIn K x2_1 (μ.2.2.1 50 x2_2.toNatClampNeg) (μ.2.2.1 51 x2_2.toNatClampNeg)) fun r_4 =>
      if r_4 = true then
        some x2_2
      else
        fX6_bandOf_L2 K n x2_1 (x2_2 + (1 : Int32)) μ
def fX6_bandOf (K : Nat) (p0 : Int32) (μ : XS) : Option Int32 :=
  fX6_bandOf_L2 K K p0 (0 : Int32) μ
set_option maxHeartbeats 4000000 in
set_option maxRecDepth 100000 in
theorem tX6_bandOf (l : Launch) (D : va_G) (d : Nat → ClassId) (z : ZT) (b : Nat → Nat) (K : Nat) (p0 : Int32) (μ : XS) (r : Int32) (hf : fX6_bandOf K p0 μ = some r) : CI l yX6_bandOf (ws_ yX6_bandOf cX6_bandOf 3 (Option.some Jvm.ClassFile.FieldType.int)) (rmc 1 0 0 22) D d z [.ref (b 7), .int p0] (TP d b μ) r (TP d b μ) := by
  refine CI.of2 (own := RX6) rfl (by decide) (Nat.le_of_ble_eq_true rfl) rfl ?_
  intro p e s m args below meth c A Q ls S hin hK hP hD hZ hS hA hl hret0
  have hret : ∀ (x : Int32) (H : Heap) (locs : List Loc) (pc : Nat) (ls' : Array Slot), some x = some r → decode cX6_bandOf pc = .ok (.ireturn, 1) → va_P D CL (TP d b μ) H → va_D A (TP d b μ) → va_S A s.heap H locs → W p l e (rmc 1 0 0 22) s m args below meth c H locs 0 0 Q (F0 m pc ls' [.int x]) := by
    intro x H locs pc ls' h9 hdg hP hD hS
    obtain rfl := so_1 h9
    exact hret0 H locs pc ls' hdg hP hD hS
  have hx := S.1
  have hb := S.2.1
  have hts := S.2.2.2.2
  have hl : lv_has ls 3 [(0, .ref (b 7)), (1, .int p0)] := hl
  have L2 : ∀ (n : Nat) (x2_1 : Int32) (x2_2 : Int32) (H : Heap) (locs : List Loc) (ls : Array Slot), fX6_bandOf_L2 K n x2_1 x2_2 μ = some r → va_P D CL (TP d b μ) H → va_D A (TP d b μ) → va_S A s.heap H locs → lv_has ls 3 [(0, .ref (b 7)), (1, .int x2_1), (2, .int x2_2)] → W p l e (rmc 1 0 0 22) s m args below meth c H locs 0 0 Q (F0 m 2 ls []) := by
    intro n
    induction n with
    | zero =>
      intro x2_1 x2_2 H locs ls hf hP hD hS hl
      rw [fX6_bandOf_L2] at hf
      cases hf
    | succ n ih =>
      intro x2_1 x2_2 H locs ls hf hP hD hS hl
      rw [fX6_bandOf_L2] at hf
      refine lv_iload_n hx hb dX6_bandOf_2 rfl (lv_at hl 2 rfl) ?_
      refine lv_aload_n hx hb dX6_bandOf_3 rfl (lv_at hl 0 rfl) ?_
      refine g_get hx hb hts S.2.2.2.1 hK hP in_X6 0 rfl rfl 12 (by decide) q381 (fun _ h9 => h9) (v := .int (μ.1 52)) rfl dX6_bandOf_4 ?_
      refine lv_icmp_ge (tgt := 37) hx hb dX6_bandOf_7 (by decide) (fun c_1 => ?_) (fun c_1 => ?_)
      · replace hf := it_t hf c_1
        clear c_1
        refine lv_bipush (v := -2) hx hb dX6_bandOf_37 (by decide) ?_
        refine W.widen (k := 0) (n := 0) (Nat.le_of_ble_eq_true rfl) (Nat.le_of_ble_eq_true rfl) ?_
        exact hret _ _ _ _ _ hf dX6_bandOf_39 hP hD hS
      · replace hf := it_f hf c_1
        clear c_1
        refine lv_iload_n hx hb dX6_bandOf_10 rfl (lv_at hl 1 rfl) ?_
        refine lv_aload_n hx hb dX6_bandOf_11 rfl (lv_at hl 0 rfl) ?_
        refine g_get hx hb hts S.2.2.2.1 hK hP in_X6 0 rfl rfl 10 (by decide) q375 (fun _ h9 => h9) (v := .ref (b 11)) rfl dX6_bandOf_12 ?_
        refine lv_iload_n hx hb dX6_bandOf_15 rfl (lv_at hl 2 rfl) ?_
        obtain ⟨g_2, hf⟩ := ga_some hf
        refine g_iald hx hb hK hP 4 rfl (ix_in g_2) dX6_bandOf_16 ?_
        refine lv_aload_n hx hb dX6_bandOf_17 rfl (lv_at hl 0 rfl) ?_
        refine g_get hx hb hts S.2.2.2.1 hK hP in_X6 0 rfl rfl 11 (by decide) q378 (fun _ h9 => h9) (v := .ref (b 12)) rfl dX6_bandOf_18 ?_
        refine lv_iload_n hx hb dX6_bandOf_21 rfl (lv_at hl 2 rfl) ?_
        obtain ⟨g_3, hf⟩ := ga_some hf
        refine g_iald hx hb hK hP 5 rfl (ix_in g_3) dX6_bandOf_22 ?_
        obtain ⟨r_4, h_5, hf⟩ := b1_some hf
        refine si_callN S (tX0_isIn l K x2_1 (μ.2.2.1 50 x2_2.toNatClampNeg) (μ.2.2.1 51 x2_2.toNatClampNeg) _ h_5) ⟨va_cnB 3 hts (lw_meth q333) rfl rfl rfl (va_Nw.use_ hK q894) (hts _ q94) (by decide +kernel) ⟨(Nat.le_of_ble_eq_true rfl), (Nat.le_of_ble_eq_true rfl)⟩, hts _ q332, trivial⟩ rfl hl.1 rfl (Nat.le_of_ble_eq_true rfl) ⟨(Nat.le_of_ble_eq_true rfl), (Nat.le_of_ble_eq_true rfl)⟩ dX6_bandOf_23 ?_
        clear h_5
        refine lv_if_eq (tgt := 31) hx hb dX6_bandOf_26 (by decide) (fun c_6 => ?_) (fun c_6 => ?_)
        · replace hf := it_f hf (bi_e0 c_6)
          clear c_6
          refine lv_iinc (v := x2_2 + (1 : Int32)) (lv' := [(2, .int (x2_2 + (1 : Int32))), (0, .ref (b 7)), (1, .int x2_1)]) hx hb dX6_bandOf_31 hl (k := 2) rfl rfl (by decide) rfl (fun ls hl => ?_)
          refine lv_goto (tgt := 2) hx hb dX6_bandOf_34 (by decide) ?_
          exact ih x2_1 (x2_2 + (1 : Int32)) _ _ _ hf hP hD hS (lv_sub hl [1, 2, 0] rfl)
        · replace hf := it_t hf (bi_n0 c_6)
          clear c_6
          refine lv_iload_n hx hb dX6_bandOf_29 rfl (lv_at hl 2 rfl) ?_
          refine W.widen (k := 0) (n := 0) (Nat.le_of_ble_eq_true rfl) (Nat.le_of_ble_eq_true rfl) ?_
          exact hret _ _ _ _ _ hf dX6_bandOf_30 hP hD hS
  unfold fX6_bandOf at hf
  refine lv_iconst (v := 0) hx hb dX6_bandOf_0 (by decide) ?_
  refine lv_istore_n (lv' := [(2, .int (0 : Int32)), (0, .ref (b 7)), (1, .int p0)]) hx hb dX6_bandOf_1 rfl hl (by decide) rfl (fun ls hl => ?_)
  exact L2 K p0 (0 : Int32) _ _ _ hf hP hD hS (lv_sub hl [1, 2, 0] rfl)
def fX0_capacitorFirst (K : Nat) (μ : XS) : Option XS :=
  b1 (fX1_addInParallel K (μ.2.1 23) (μ.2.1 32, μ.2.1 33)) fun ξ_2 =>
  nm (xJ (xJ μ 32 ξ_2.1) 33 ξ_2.2) fun ξ_3 =>
  b1 (fX1_set K (ξ_3.2.1 32) (ξ_3.2.1 33) (ξ_3.2.1 30, ξ_3.2.1 31)) fun ξ_5 =>
  nm (xJ (xJ ξ_3 30 ξ_5.1) 31 ξ_5.2) fun ξ_6 =>
  b1 (fX1_addInSeries K (ξ_6.2.1 22) (ξ_6.2.1 21) (ξ_6.2.1 32, ξ_6.2.1 33)) fun ξ_8 =>
  nm (xJ (xJ ξ_6 32 ξ_8.1) 33 ξ_8.2) fun ξ_9 =>
  some ξ_9
set_option maxHeartbeats 4000000 in
set_option maxRecDepth 100000 in
theorem tX0_capacitorFirst (l : Launch) (D : va_G) (d : Nat → ClassId) (z : ZT) (b : Nat → Nat) (fl : Option Nat) (K : Nat) (μ : XS) (μ' : XS) (hf : fX0_capacitorFirst K μ = some μ') : CV l yX0_capacitorFirst (ws_ yX0_capacitorFirst cX0_capacitorFirst 1 (Option.none : Option Jvm.ClassFile.FieldType)) (rmc 3 0 0 68) D d z [.ref (b 4)] (XP d z b fl μ) (XP d z b fl μ') := by
  refine CV.of2 (own := RX0) rfl (by decide) (Nat.le_of_ble_eq_true rfl) ?_
  intro p e s m args below meth c A Q ls S hin hK hP hD hZ hS hA hl hret0
  have hret : ∀ (μx : XS) (H : Heap) (locs : List Loc) (pc : Nat) (ls' : Array Slot), some μx = some μ' → decode cX0_capacitorFirst pc = .ok (.return_, 1) → va_P D CL (XP d z b fl μx) H → va_D A (XP d z b fl μx) → va_S A s.heap H locs → W p l e (rmc 3 0 0 68) s m args below meth c H locs 0 0 Q (F0 m pc ls' []) := by
    intro μx H locs pc ls' h9 hdg hP hD hS
    obtain rfl := so_1 h9
    exact hret0 H locs pc ls' hdg hP hD hS
  have hx := S.1
  have hb := S.2.1
  have hts := S.2.2.2.2
  have hl : lv_has ls 1 [(0, .ref (b 4))] := hl
  unfold fX0_capacitorFirst at hf
  refine lv_aload_n hx hb dX0_capacitorFirst_0 rfl (lv_at hl 0 rfl) ?_
  refine g_getN hx hb hts S.2.2.2.1 hK hP in_X3 4 rfl rfl 5 (by decide) q239 (fun _ h9 => h9) (v := .ref (b 6)) rfl dX0_capacitorFirst_1 ?_
  refine lv_aload_n hx hb dX0_capacitorFirst_4 rfl (lv_at hl 0 rfl) ?_
  refine g_getN hx hb hts S.2.2.2.1 hK hP in_X3 4 rfl rfl 3 (by decide) q235 (fun _ h9 => h9) (v := .long (μ.2.1 23)) rfl dX0_capacitorFirst_5 ?_
  obtain ⟨ξ_2, h_1, hf⟩ := b1_some hf
  obtain ⟨ξ_3, e_ξ_3⟩ : ∃ x, x = xJ (xJ μ 32 ξ_2.1) 33 ξ_2.2 := ⟨_, rfl⟩
  refine run_v0 (wr := [(b 0, .inr (1, [.ref (b 1), .int (μ.1 1), .int (μ.1 2), .ref (b 2), .ref (b 3), .ref (b 4), va_rf fl, .ref (b 7), .ref (b 13), .ref (b 16), .int (μ.1 10)])), (b 1, .inl (d 2, 500, .inl (μ.2.2.1 1))), (b 2, .inl (d 5, 2, .inr (.inr (.inr (.inr (fun j => some (z.2.2 j))))))), (b 3, .inl (d 6, 5, .inr (.inr (.inr (.inr (fun j => some (z.2.2 (2 + j)))))))), (b 4, .inr (4, [.int (μ.1 20), .long (μ.2.1 21), .long (μ.2.1 22), .long (μ.2.1 23), .ref (b 5), .ref (b 6), .ref (b 0)])), (b 5, .inr (2, [.long (μ.2.1 30), .long (μ.2.1 31)])), (b 7, .inr (6, [.int (μ.1 40), .int (μ.1 41), .int (μ.1 42), .int (μ.1 43), .int (μ.1 44), .int (μ.1 45), .ref (b 8), .ref (b 9), .ref (b 10), .int (μ.1 49), .ref (b 11), .ref (b 12), .int (μ.1 52)])), (b 8, .inl (d 0, 16, .inl (μ.2.2.1 46))), (b 9, .inl (d 1, 16, .inr (.inl (μ.2.2.2.1 47)))), (b 10, .inl (d 1, 16, .inr (.inl (μ.2.2.2.1 48)))), (b 11, .inl (d 0, 8, .inl (μ.2.2.1 50))), (b 12, .inl (d 0, 8, .inl (μ.2.2.1 51))), (b 13, .inr (8, [.int (μ.1 60), .int (μ.1 61), .int (μ.1 62), .int (μ.1 63), .ref (b 14), .ref (b 15), .int (μ.1 66), .ref (b 17)])), (b 14, .inl (d 0, 100, .inl (μ.2.2.1 64))), (b 15, .inl (d 3, 100, .inl (μ.2.2.1 65)))]) (w' := XP d z b fl ξ_3) (va_runV (As := [.long (μ.2.1 23)]) (rest := []) S (tX1_addInParallel l D d z (b 6) K (μ.2.1 23) (μ.2.1 32, μ.2.1 33) ξ_2 h_1 _) (cwV 1 hts (lw_V q142 q143 q144 q95 q145) rfl rfl rfl (by decide +kernel) ⟨(Nat.le_of_ble_eq_true rfl), (Nat.le_of_ble_eq_true rfl)⟩) ⟨Pw.blind, (va_recv hK.1 hP (ci := 2) (q0 := 6) rfl rfl), fun U hU hW => Pw.cut (tl := []) hK (by rw [List.append_nil]; exact hP) (by rw [List.append_nil]; exact hD) hZ hS hA [6] rfl rfl hU hW⟩ rfl rfl hl.1 rfl (lv_room (Nat.le_of_ble_eq_true rfl)) dX0_capacitorFirst_8 ⟨(Nat.le_of_ble_eq_true rfl), (Nat.le_of_ble_eq_true rfl)⟩) hP hD hS hA [6] [0, 1, 2, 3, 4, 5, 7, 8, 9, 10, 11, 12, 13, 14, 15] [0, 1, 2, 3, 4, 5, 15, 6, 7, 8, 9, 10, 11, 12, 13, 14] rfl rfl rfl rfl (by decide) rfl (by subst e_ξ_3; rfl) ?_
  clear hP hD hS
  intro H locs hP hD hS
  clear h_1
  replace hf := nm_some hf ξ_3 e_ξ_3
  clear e_ξ_3
  refine lv_aload_n hx hb dX0_capacitorFirst_11 rfl (lv_at hl 0 rfl) ?_
  refine g_getN hx hb hts S.2.2.2.1 hK hP in_X3 4 rfl rfl 4 (by decide) q237 (fun _ h9 => h9) (v := .ref (b 5)) rfl dX0_capacitorFirst_12 ?_
  refine lv_aload_n hx hb dX0_capacitorFirst_15 rfl (lv_at hl 0 rfl) ?_
  refine g_getN hx hb hts S.2.2.2.1 hK hP in_X3 4 rfl rfl 5 (by decide) q239 (fun _ h9 => h9) (v := .ref (b 6)) rfl dX0_capacitorFirst_16 ?_
  refine g_getN hx hb hts S.2.2.2.1 hK hP in_X1 6 rfl rfl 0 (by decide) q220 (fun _ h9 => h9) (v := .long (ξ_3.2.1 32)) rfl dX0_capacitorFirst_19 ?_
  refine lv_aload_n hx hb dX0_capacitorFirst_22 rfl (lv_at hl 0 rfl) ?_
  refine g_getN hx hb hts S.2.2.2.1 hK hP in_X3 4 rfl rfl 5 (by decide) q239 (fun _ h9 => h9) (v := .ref (b 6)) rfl dX0_capacitorFirst_23 ?_
  refine g_getN hx hb hts S.2.2.2.1 hK hP in_X1 6 rfl rfl 1 (by decide) q223 (fun _ h9 => h9) (v := .long (ξ_3.2.1 33)) rfl dX0_capacitorFirst_26 ?_
  obtain ⟨ξ_5, h_4, hf⟩ := b1_some hf
  obtain ⟨ξ_6, e_ξ_6⟩ : ∃ x, x = xJ (xJ ξ_3 30 ξ_5.1) 31 ξ_5.2 := ⟨_, rfl⟩
  refine run_v0 (wr := [(b 0, .inr (1, [.ref (b 1), .int (ξ_3.1 1), .int (ξ_3.1 2), .ref (b 2), .ref (b 3), .ref (b 4), va_rf fl, .ref (b 7), .ref (b 13), .ref (b 16), .int (ξ_3.1 10)])), (b 1, .inl (d 2, 500, .inl (ξ_3.2.2.1 1))), (b 2, .inl (d 5, 2, .inr (.inr (.inr (.inr (fun j => some (z.2.2 j))))))), (b 3, .inl (d 6, 5, .inr (.inr (.inr (.inr (fun j => some (z.2.2 (2 + j)))))))), (b 4, .inr (4, [.int (ξ_3.1 20), .long (ξ_3.2.1 21), .long (ξ_3.2.1 22), .long (ξ_3.2.1 23), .ref (b 5), .ref (b 6), .ref (b 0)])), (b 6, .inr (2, [.long (ξ_3.2.1 32), .long (ξ_3.2.1 33)])), (b 7, .inr (6, [.int (ξ_3.1 40), .int (ξ_3.1 41), .int (ξ_3.1 42), .int (ξ_3.1 43), .int (ξ_3.1 44), .int (ξ_3.1 45), .ref (b 8), .ref (b 9), .ref (b 10), .int (ξ_3.1 49), .ref (b 11), .ref (b 12), .int (ξ_3.1 52)])), (b 8, .inl (d 0, 16, .inl (ξ_3.2.2.1 46))), (b 9, .inl (d 1, 16, .inr (.inl (ξ_3.2.2.2.1 47)))), (b 10, .inl (d 1, 16, .inr (.inl (ξ_3.2.2.2.1 48)))), (b 11, .inl (d 0, 8, .inl (ξ_3.2.2.1 50))), (b 12, .inl (d 0, 8, .inl (ξ_3.2.2.1 51))), (b 13, .inr (8, [.int (ξ_3.1 60), .int (ξ_3.1 61), .int (ξ_3.1 62), .int (ξ_3.1 63), .ref (b 14), .ref (b 15), .int (ξ_3.1 66), .ref (b 17)])), (b 14, .inl (d 0, 100, .inl (ξ_3.2.2.1 64))), (b 15, .inl (d 3, 100, .inl (ξ_3.2.2.1 65)))]) (w' := XP d z b fl ξ_6) (va_runV (As := [.long (ξ_3.2.1 32), .long (ξ_3.2.1 33)]) (rest := []) S (tX1_set l D d z (b 5) K (ξ_3.2.1 32) (ξ_3.2.1 33) (ξ_3.2.1 30, ξ_3.2.1 31) ξ_5 h_4 _) (cwV 2 hts (lw_V q167 q154 q155 q95 q156) rfl rfl rfl (by decide +kernel) ⟨(Nat.le_of_ble_eq_true rfl), (Nat.le_of_ble_eq_true rfl)⟩) ⟨Pw.blind, (va_recv hK.1 hP (ci := 2) (q0 := 5) rfl rfl), fun U hU hW => Pw.cut (tl := []) hK (by rw [List.append_nil]; exact hP) (by rw [List.append_nil]; exact hD) hZ hS hA [5] rfl rfl hU hW⟩ rfl rfl hl.1 rfl (lv_room (Nat.le_of_ble_eq_true rfl)) dX0_capacitorFirst_29 ⟨(Nat.le_of_ble_eq_true rfl), (Nat.le_of_ble_eq_true rfl)⟩) hP hD hS hA [5] [0, 1, 2, 3, 4, 6, 7, 8, 9, 10, 11, 12, 13, 14, 15] [0, 1, 2, 3, 4, 15, 5, 6, 7, 8, 9, 10, 11, 12, 13, 14] rfl rfl rfl rfl (by decide) rfl (by subst e_ξ_6; rfl) ?_
  clear hP hD hS
  intro H locs hP hD hS
  clear h_4
  replace hf := nm_some hf ξ_6 e_ξ_6
  clear e_ξ_6
  refine lv_aload_n hx hb dX0_capacitorFirst_32 rfl (lv_at hl 0 rfl) ?_
  refine g_getN hx hb hts S.2.2.2.1 hK hP in_X3 4 rfl rfl 5 (by decide) q239 (fun _ h9 => h9) (v := .ref (b 6)) rfl dX0_capacitorFirst_33 ?_
  refine lv_aload_n hx hb dX0_capacitorFirst_36 rfl (lv_at hl 0 rfl) ?_
  refine g_getN hx hb hts S.2.2.2.1 hK hP in_X3 4 rfl rfl 2 (by decide) q233 (fun _ h9 => h9) (v := .long (ξ_6.2.1 22)) rfl dX0_capacitorFirst_37 ?_
  refine lv_aload_n hx hb dX0_capacitorFirst_40 rfl (lv_at hl 0 rfl) ?_
  refine g_getN hx hb hts S.2.2.2.1 hK hP in_X3 4 rfl rfl 1 (by decide) q231 (fun _ h9 => h9) (v := .long (ξ_6.2.1 21)) rfl dX0_capacitorFirst_41 ?_
  obtain ⟨ξ_8, h_7, hf⟩ := b1_some hf
  obtain ⟨ξ_9, e_ξ_9⟩ : ∃ x, x = xJ (xJ ξ_6 32 ξ_8.1) 33 ξ_8.2 := ⟨_, rfl⟩
  refine run_v0 (wr := [(b 0, .inr (1, [.ref (b 1), .int (ξ_6.1 1), .int (ξ_6.1 2), .ref (b 2), .ref (b 3), .ref (b 4), va_rf fl, .ref (b 7), .ref (b 13), .ref (b 16), .int (ξ_6.1 10)])), (b 1, .inl (d 2, 500, .inl (ξ_6.2.2.1 1))), (b 2, .inl (d 5, 2, .inr (.inr (.inr (.inr (fun j => some (z.2.2 j))))))), (b 3, .inl (d 6, 5, .inr (.inr (.inr (.inr (fun j => some (z.2.2 (2 + j)))))))), (b 4, .inr (4, [.int (ξ_6.1 20), .long (ξ_6.2.1 21), .long (ξ_6.2.1 22), .long (ξ_6.2.1 23), .ref (b 5), .ref (b 6), .ref (b 0)])), (b 5, .inr (2, [.long (ξ_6.2.1 30), .long (ξ_6.2.1 31)])), (b 7, .inr (6, [.int (ξ_6.1 40), .int (ξ_6.1 41), .int (ξ_6.1 42), .int (ξ_6.1 43), .int (ξ_6.1 44), .int (ξ_6.1 45), .ref (b 8), .ref (b 9), .ref (b 10), .int (ξ_6.1 49), .ref (b 11), .ref (b 12), .int (ξ_6.1 52)])), (b 8, .inl (d 0, 16, .inl (ξ_6.2.2.1 46))), (b 9, .inl (d 1, 16, .inr (.inl (ξ_6.2.2.2.1 47)))), (b 10, .inl (d 1, 16, .inr (.inl (ξ_6.2.2.2.1 48)))), (b 11, .inl (d 0, 8, .inl (ξ_6.2.2.1 50))), (b 12, .inl (d 0, 8, .inl (ξ_6.2.2.1 51))), (b 13, .inr (8, [.int (ξ_6.1 60), .int (ξ_6.1 61), .int (ξ_6.1 62), .int (ξ_6.1 63), .ref (b 14), .ref (b 15), .int (ξ_6.1 66), .ref (b 17)])), (b 14, .inl (d 0, 100, .inl (ξ_6.2.2.1 64))), (b 15, .inl (d 3, 100, .inl (ξ_6.2.2.1 65)))]) (w' := XP d z b fl ξ_9) (va_runV (As := [.long (ξ_6.2.1 22), .long (ξ_6.2.1 21)]) (rest := []) S (tX1_addInSeries l D d z (b 6) K (ξ_6.2.1 22) (ξ_6.2.1 21) (ξ_6.2.1 32, ξ_6.2.1 33) ξ_8 h_7 _) (cwV 2 hts (lw_V q168 q169 q170 q95 q171) rfl rfl rfl (by decide +kernel) ⟨(Nat.le_of_ble_eq_true rfl), (Nat.le_of_ble_eq_true rfl)⟩) ⟨Pw.blind, (va_recv hK.1 hP (ci := 2) (q0 := 6) rfl rfl), fun U hU hW => Pw.cut (tl := []) hK (by rw [List.append_nil]; exact hP) (by rw [List.append_nil]; exact hD) hZ hS hA [6] rfl rfl hU hW⟩ rfl rfl hl.1 rfl (lv_room (Nat.le_of_ble_eq_true rfl)) dX0_capacitorFirst_44 ⟨(Nat.le_of_ble_eq_true rfl), (Nat.le_of_ble_eq_true rfl)⟩) hP hD hS hA [6] [0, 1, 2, 3, 4, 5, 7, 8, 9, 10, 11, 12, 13, 14, 15] [0, 1, 2, 3, 4, 5, 15, 6, 7, 8, 9, 10, 11, 12, 13, 14] rfl rfl rfl rfl (by decide) rfl (by subst e_ξ_9; rfl) ?_
  clear hP hD hS
  intro H locs hP hD hS
  clear h_7
  replace hf := nm_some hf ξ_9 e_ξ_9
  clear e_ξ_9
  refine W.widen (k := 0) (n := 0) (Nat.le_of_ble_eq_true rfl) (Nat.le_of_ble_eq_true rfl) ?_
  exact hret _ _ _ _ _ hf dX0_capacitorFirst_47 hP hD hS
def fX0_coilFirst (K : Nat) (μ : XS) : Option XS :=
  b1 (fX1_set K (μ.2.1 32) (μ.2.1 33) (μ.2.1 30, μ.2.1 31)) fun ξ_2 =>
  nm (xJ (xJ μ 30 ξ_2.1) 31 ξ_2.2) fun ξ_3 =>
  b1 (fX1_addInSeries K (ξ_3.2.1 22) (ξ_3.2.1 21) (ξ_3.2.1 32, ξ_3.2.1 33)) fun ξ_5 =>
  nm (xJ (xJ ξ_3 32 ξ_5.1) 33 ξ_5.2) fun ξ_6 =>
  b1 (fX1_addInParallel K (ξ_6.2.1 23) (ξ_6.2.1 32, ξ_6.2.1 33)) fun ξ_8 =>
  nm (xJ (xJ ξ_6 32 ξ_8.1) 33 ξ_8.2) fun ξ_9 =>
  some ξ_9
set_option maxHeartbeats 4000000 in
set_option maxRecDepth 100000 in
theorem tX0_coilFirst (l : Launch) (D : va_G) (d : Nat → ClassId) (z : ZT) (b : Nat → Nat) (fl : Option Nat) (K : Nat) (μ : XS) (μ' : XS) (hf : fX0_coilFirst K μ = some μ') : CV l yX0_coilFirst (ws_ yX0_coilFirst cX0_coilFirst 1 (Option.none : Option Jvm.ClassFile.FieldType)) (rmc 3 0 0 68) D d z [.ref (b 4)] (XP d z b fl μ) (XP d z b fl μ') := by
  refine CV.of2 (own := RX0) rfl (by decide) (Nat.le_of_ble_eq_true rfl) ?_
  intro p e s m args below meth c A Q ls S hin hK hP hD hZ hS hA hl hret0
  have hret : ∀ (μx : XS) (H : Heap) (locs : List Loc) (pc : Nat) (ls' : Array Slot), some μx = some μ' → decode cX0_coilFirst pc = .ok (.return_, 1) → va_P D CL (XP d z b fl μx) H → va_D A (XP d z b fl μx) → va_S A s.heap H locs → W p l e (rmc 3 0 0 68) s m args below meth c H locs 0 0 Q (F0 m pc ls' []) := by
    intro μx H locs pc ls' h9 hdg hP hD hS
    obtain rfl := so_1 h9
    exact hret0 H locs pc ls' hdg hP hD hS
  have hx := S.1
  have hb := S.2.1
  have hts := S.2.2.2.2
  have hl : lv_has ls 1 [(0, .ref (b 4))] := hl
  unfold fX0_coilFirst at hf
  refine lv_aload_n hx hb dX0_coilFirst_0 rfl (lv_at hl 0 rfl) ?_
  refine g_getN hx hb hts S.2.2.2.1 hK hP in_X3 4 rfl rfl 4 (by decide) q237 (fun _ h9 => h9) (v := .ref (b 5)) rfl dX0_coilFirst_1 ?_
  refine lv_aload_n hx hb dX0_coilFirst_4 rfl (lv_at hl 0 rfl) ?_
  refine g_getN hx hb hts S.2.2.2.1 hK hP in_X3 4 rfl rfl 5 (by decide) q239 (fun _ h9 => h9) (v := .ref (b 6)) rfl dX0_coilFirst_5 ?_
  refine g_getN hx hb hts S.2.2.2.1 hK hP in_X1 6 rfl rfl 0 (by decide) q220 (fun _ h9 => h9) (v := .long (μ.2.1 32)) rfl dX0_coilFirst_8 ?_
  refine lv_aload_n hx hb dX0_coilFirst_11 rfl (lv_at hl 0 rfl) ?_
  refine g_getN hx hb hts S.2.2.2.1 hK hP in_X3 4 rfl rfl 5 (by decide) q239 (fun _ h9 => h9) (v := .ref (b 6)) rfl dX0_coilFirst_12 ?_
  refine g_getN hx hb hts S.2.2.2.1 hK hP in_X1 6 rfl rfl 1 (by decide) q223 (fun _ h9 => h9) (v := .long (μ.2.1 33)) rfl dX0_coilFirst_15 ?_
  obtain ⟨ξ_2, h_1, hf⟩ := b1_some hf
  obtain ⟨ξ_3, e_ξ_3⟩ : ∃ x, x = xJ (xJ μ 30 ξ_2.1) 31 ξ_2.2 := ⟨_, rfl⟩
  refine run_v0 (wr := [(b 0, .inr (1, [.ref (b 1), .int (μ.1 1), .int (μ.1 2), .ref (b 2), .ref (b 3), .ref (b 4), va_rf fl, .ref (b 7), .ref (b 13), .ref (b 16), .int (μ.1 10)])), (b 1, .inl (d 2, 500, .inl (μ.2.2.1 1))), (b 2, .inl (d 5, 2, .inr (.inr (.inr (.inr (fun j => some (z.2.2 j))))))), (b 3, .inl (d 6, 5, .inr (.inr (.inr (.inr (fun j => some (z.2.2 (2 + j)))))))), (b 4, .inr (4, [.int (μ.1 20), .long (μ.2.1 21), .long (μ.2.1 22), .long (μ.2.1 23), .ref (b 5), .ref (b 6), .ref (b 0)])), (b 6, .inr (2, [.long (μ.2.1 32), .long (μ.2.1 33)])), (b 7, .inr (6, [.int (μ.1 40), .int (μ.1 41), .int (μ.1 42), .int (μ.1 43), .int (μ.1 44), .int (μ.1 45), .ref (b 8), .ref (b 9), .ref (b 10), .int (μ.1 49), .ref (b 11), .ref (b 12), .int (μ.1 52)])), (b 8, .inl (d 0, 16, .inl (μ.2.2.1 46))), (b 9, .inl (d 1, 16, .inr (.inl (μ.2.2.2.1 47)))), (b 10, .inl (d 1, 16, .inr (.inl (μ.2.2.2.1 48)))), (b 11, .inl (d 0, 8, .inl (μ.2.2.1 50))), (b 12, .inl (d 0, 8, .inl (μ.2.2.1 51))), (b 13, .inr (8, [.int (μ.1 60), .int (μ.1 61), .int (μ.1 62), .int (μ.1 63), .ref (b 14), .ref (b 15), .int (μ.1 66), .ref (b 17)])), (b 14, .inl (d 0, 100, .inl (μ.2.2.1 64))), (b 15, .inl (d 3, 100, .inl (μ.2.2.1 65)))]) (w' := XP d z b fl ξ_3) (va_runV (As := [.long (μ.2.1 32), .long (μ.2.1 33)]) (rest := []) S (tX1_set l D d z (b 5) K (μ.2.1 32) (μ.2.1 33) (μ.2.1 30, μ.2.1 31) ξ_2 h_1 _) (cwV 2 hts (lw_V q167 q154 q155 q95 q156) rfl rfl rfl (by decide +kernel) ⟨(Nat.le_of_ble_eq_true rfl), (Nat.le_of_ble_eq_true rfl)⟩) ⟨Pw.blind, (va_recv hK.1 hP (ci := 2) (q0 := 5) rfl rfl), fun U hU hW => Pw.cut (tl := []) hK (by rw [List.append_nil]; exact hP) (by rw [List.append_nil]; exact hD) hZ hS hA [5] rfl rfl hU hW⟩ rfl rfl hl.1 rfl (lv_room (Nat.le_of_ble_eq_true rfl)) dX0_coilFirst_18 ⟨(Nat.le_of_ble_eq_true rfl), (Nat.le_of_ble_eq_true rfl)⟩) hP hD hS hA [5] [0, 1, 2, 3, 4, 6, 7, 8, 9, 10, 11, 12, 13, 14, 15] [0, 1, 2, 3, 4, 15, 5, 6, 7, 8, 9, 10, 11, 12, 13, 14] rfl rfl rfl rfl (by decide) rfl (by subst e_ξ_3; rfl) ?_
  clear hP hD hS
  intro H locs hP hD hS
  clear h_1
  replace hf := nm_some hf ξ_3 e_ξ_3
  clear e_ξ_3
  refine lv_aload_n hx hb dX0_coilFirst_21 rfl (lv_at hl 0 rfl) ?_
  refine g_getN hx hb hts S.2.2.2.1 hK hP in_X3 4 rfl rfl 5 (by decide) q239 (fun _ h9 => h9) (v := .ref (b 6)) rfl dX0_coilFirst_22 ?_
  refine lv_aload_n hx hb dX0_coilFirst_25 rfl (lv_at hl 0 rfl) ?_
  refine g_getN hx hb hts S.2.2.2.1 hK hP in_X3 4 rfl rfl 2 (by decide) q233 (fun _ h9 => h9) (v := .long (ξ_3.2.1 22)) rfl dX0_coilFirst_26 ?_
  refine lv_aload_n hx hb dX0_coilFirst_29 rfl (lv_at hl 0 rfl) ?_
  refine g_getN hx hb hts S.2.2.2.1 hK hP in_X3 4 rfl rfl 1 (by decide) q231 (fun _ h9 => h9) (v := .long (ξ_3.2.1 21)) rfl dX0_coilFirst_30 ?_
  obtain ⟨ξ_5, h_4, hf⟩ := b1_some hf
  obtain ⟨ξ_6, e_ξ_6⟩ : ∃ x, x = xJ (xJ ξ_3 32 ξ_5.1) 33 ξ_5.2 := ⟨_, rfl⟩
  refine run_v0 (wr := [(b 0, .inr (1, [.ref (b 1), .int (ξ_3.1 1), .int (ξ_3.1 2), .ref (b 2), .ref (b 3), .ref (b 4), va_rf fl, .ref (b 7), .ref (b 13), .ref (b 16), .int (ξ_3.1 10)])), (b 1, .inl (d 2, 500, .inl (ξ_3.2.2.1 1))), (b 2, .inl (d 5, 2, .inr (.inr (.inr (.inr (fun j => some (z.2.2 j))))))), (b 3, .inl (d 6, 5, .inr (.inr (.inr (.inr (fun j => some (z.2.2 (2 + j)))))))), (b 4, .inr (4, [.int (ξ_3.1 20), .long (ξ_3.2.1 21), .long (ξ_3.2.1 22), .long (ξ_3.2.1 23), .ref (b 5), .ref (b 6), .ref (b 0)])), (b 5, .inr (2, [.long (ξ_3.2.1 30), .long (ξ_3.2.1 31)])), (b 7, .inr (6, [.int (ξ_3.1 40), .int (ξ_3.1 41), .int (ξ_3.1 42), .int (ξ_3.1 43), .int (ξ_3.1 44), .int (ξ_3.1 45), .ref (b 8), .ref (b 9), .ref (b 10), .int (ξ_3.1 49), .ref (b 11), .ref (b 12), .int (ξ_3.1 52)])), (b 8, .inl (d 0, 16, .inl (ξ_3.2.2.1 46))), (b 9, .inl (d 1, 16, .inr (.inl (ξ_3.2.2.2.1 47)))), (b 10, .inl (d 1, 16, .inr (.inl (ξ_3.2.2.2.1 48)))), (b 11, .inl (d 0, 8, .inl (ξ_3.2.2.1 50))), (b 12, .inl (d 0, 8, .inl (ξ_3.2.2.1 51))), (b 13, .inr (8, [.int (ξ_3.1 60), .int (ξ_3.1 61), .int (ξ_3.1 62), .int (ξ_3.1 63), .ref (b 14), .ref (b 15), .int (ξ_3.1 66), .ref (b 17)])), (b 14, .inl (d 0, 100, .inl (ξ_3.2.2.1 64))), (b 15, .inl (d 3, 100, .inl (ξ_3.2.2.1 65)))]) (w' := XP d z b fl ξ_6) (va_runV (As := [.long (ξ_3.2.1 22), .long (ξ_3.2.1 21)]) (rest := []) S (tX1_addInSeries l D d z (b 6) K (ξ_3.2.1 22) (ξ_3.2.1 21) (ξ_3.2.1 32, ξ_3.2.1 33) ξ_5 h_4 _) (cwV 2 hts (lw_V q168 q169 q170 q95 q171) rfl rfl rfl (by decide +kernel) ⟨(Nat.le_of_ble_eq_true rfl), (Nat.le_of_ble_eq_true rfl)⟩) ⟨Pw.blind, (va_recv hK.1 hP (ci := 2) (q0 := 6) rfl rfl), fun U hU hW => Pw.cut (tl := []) hK (by rw [List.append_nil]; exact hP) (by rw [List.append_nil]; exact hD) hZ hS hA [6] rfl rfl hU hW⟩ rfl rfl hl.1 rfl (lv_room (Nat.le_of_ble_eq_true rfl)) dX0_coilFirst_33 ⟨(Nat.le_of_ble_eq_true rfl), (Nat.le_of_ble_eq_true rfl)⟩) hP hD hS hA [6] [0, 1, 2, 3, 4, 5, 7, 8, 9, 10, 11, 12, 13, 14, 15] [0, 1, 2, 3, 4, 5, 15, 6, 7, 8, 9, 10, 11, 12, 13, 14] rfl rfl rfl rfl (by decide) rfl (by subst e_ξ_6; rfl) ?_
  clear hP hD hS
  intro H locs hP hD hS
  clear h_4
  replace hf := nm_some hf ξ_6 e_ξ_6
  clear e_ξ_6
  refine lv_aload_n hx hb dX0_coilFirst_36 rfl (lv_at hl 0 rfl) ?_
  refine g_getN hx hb hts S.2.2.2.1 hK hP in_X3 4 rfl rfl 5 (by decide) q239 (fun _ h9 => h9) (v := .ref (b 6)) rfl dX0_coilFirst_37 ?_
  refine lv_aload_n hx hb dX0_coilFirst_40 rfl (lv_at hl 0 rfl) ?_
  refine g_getN hx hb hts S.2.2.2.1 hK hP in_X3 4 rfl rfl 3 (by decide) q235 (fun _ h9 => h9) (v := .long (ξ_6.2.1 23)) rfl dX0_coilFirst_41 ?_
  obtain ⟨ξ_8, h_7, hf⟩ := b1_some hf
  obtain ⟨ξ_9, e_ξ_9⟩ : ∃ x, x = xJ (xJ ξ_6 32 ξ_8.1) 33 ξ_8.2 := ⟨_, rfl⟩
  refine run_v0 (wr := [(b 0, .inr (1, [.ref (b 1), .int (ξ_6.1 1), .int (ξ_6.1 2), .ref (b 2), .ref (b 3), .ref (b 4), va_rf fl, .ref (b 7), .ref (b 13), .ref (b 16), .int (ξ_6.1 10)])), (b 1, .inl (d 2, 500, .inl (ξ_6.2.2.1 1))), (b 2, .inl (d 5, 2, .inr (.inr (.inr (.inr (fun j => some (z.2.2 j))))))), (b 3, .inl (d 6, 5, .inr (.inr (.inr (.inr (fun j => some (z.2.2 (2 + j)))))))), (b 4, .inr (4, [.int (ξ_6.1 20), .long (ξ_6.2.1 21), .long (ξ_6.2.1 22), .long (ξ_6.2.1 23), .ref (b 5), .ref (b 6), .ref (b 0)])), (b 5, .inr (2, [.long (ξ_6.2.1 30), .long (ξ_6.2.1 31)])), (b 7, .inr (6, [.int (ξ_6.1 40), .int (ξ_6.1 41), .int (ξ_6.1 42), .int (ξ_6.1 43), .int (ξ_6.1 44), .int (ξ_6.1 45), .ref (b 8), .ref (b 9), .ref (b 10), .int (ξ_6.1 49), .ref (b 11), .ref (b 12), .int (ξ_6.1 52)])), (b 8, .inl (d 0, 16, .inl (ξ_6.2.2.1 46))), (b 9, .inl (d 1, 16, .inr (.inl (ξ_6.2.2.2.1 47)))), (b 10, .inl (d 1, 16, .inr (.inl (ξ_6.2.2.2.1 48)))), (b 11, .inl (d 0, 8, .inl (ξ_6.2.2.1 50))), (b 12, .inl (d 0, 8, .inl (ξ_6.2.2.1 51))), (b 13, .inr (8, [.int (ξ_6.1 60), .int (ξ_6.1 61), .int (ξ_6.1 62), .int (ξ_6.1 63), .ref (b 14), .ref (b 15), .int (ξ_6.1 66), .ref (b 17)])), (b 14, .inl (d 0, 100, .inl (ξ_6.2.2.1 64))), (b 15, .inl (d 3, 100, .inl (ξ_6.2.2.1 65)))]) (w' := XP d z b fl ξ_9) (va_runV (As := [.long (ξ_6.2.1 23)]) (rest := []) S (tX1_addInParallel l D d z (b 6) K (ξ_6.2.1 23) (ξ_6.2.1 32, ξ_6.2.1 33) ξ_8 h_7 _) (cwV 1 hts (lw_V q142 q143 q144 q95 q145) rfl rfl rfl (by decide +kernel) ⟨(Nat.le_of_ble_eq_true rfl), (Nat.le_of_ble_eq_true rfl)⟩) ⟨Pw.blind, (va_recv hK.1 hP (ci := 2) (q0 := 6) rfl rfl), fun U hU hW => Pw.cut (tl := []) hK (by rw [List.append_nil]; exact hP) (by rw [List.append_nil]; exact hD) hZ hS hA [6] rfl rfl hU hW⟩ rfl rfl hl.1 rfl (lv_room (Nat.le_of_ble_eq_true rfl)) dX0_coilFirst_44 ⟨(Nat.le_of_ble_eq_true rfl), (Nat.le_of_ble_eq_true rfl)⟩) hP hD hS hA [6] [0, 1, 2, 3, 4, 5, 7, 8, 9, 10, 11, 12, 13, 14, 15] [0, 1, 2, 3, 4, 5, 15, 6, 7, 8, 9, 10, 11, 12, 13, 14] rfl rfl rfl rfl (by decide) rfl (by subst e_ξ_9; rfl) ?_
  clear hP hD hS
  intro H locs hP hD hS
  clear h_7
  replace hf := nm_some hf ξ_9 e_ξ_9
  clear e_ξ_9
  refine W.widen (k := 0) (n := 0) (Nat.le_of_ble_eq_true rfl) (Nat.le_of_ble_eq_true rfl) ?_
  exact hret _ _ _ _ _ hf dX0_coilFirst_47 hP hD hS
def fX3_lay (K : Nat) (p0 : Int32) (p1 : Int32) (μ : XS) : Option XS :=
  nm (xI μ 20 (p0 / (4096 : Int32))) fun ξ_1 =>
  nm (xJ ξ_1 21 (((((6283 : Int64) * p1.toInt64) * ((ξ_1.1 40).toInt64)) * (((p0 / (64 : Int32)) - (p0 / (64 : Int32)) / (64 : Int32) * (64 : Int32)).toInt64)) / (1000000 : Int64))) fun ξ_2 =>
  nm (xJ ξ_2 23 (((((6283 : Int64) * p1.toInt64) * ((ξ_2.1 42).toInt64)) * ((p0 - p0 / (64 : Int32) * (64 : Int32)).toInt64)) / (100000 : Int64))) fun ξ_3 =>
  ga (¬ ((ξ_3.1 41).toInt64) = 0) <|
  nm (xJ ξ_3 22 ((ξ_3.2.1 21) / ((ξ_3.1 41).toInt64))) fun ξ_5 =>
  b1 (fX6_resistance K p1 ξ_5) fun r_7 =>
  b1 (fX6_reactance K p1 ξ_5) fun r_9 =>
  b1 (fX1_set K r_7 r_9 (ξ_5.2.1 32, ξ_5.2.1 33)) fun ξ_11 =>
  nm (xJ (xJ ξ_5 32 ξ_11.1) 33 ξ_11.2) fun ξ_12 =>
  ga (ix (ξ_12.1 20) 2) <|
  if (ξ_12.1 20) = 0 then
    b1 (fX0_capacitorFirst K ξ_12) fun ξ_15 =>
    some ξ_15
  else
    ga ((ξ_12.1 20) = 1) <|
    b1 (fX0_coilFirst K ξ_12) fun ξ_17 =>
    some ξ_17
set_option maxHeartbeats 4000000 in
set_option maxRecDepth 100000 in
theorem tX3_lay (l : Launch) (D : va_G) (d : Nat → ClassId) (z : ZT) (b : Nat → Nat) (fl : Option Nat) (K : Nat) (p0 : Int32) (p1 : Int32) (μ : XS) (μ' : XS) (hf : fX3_lay K p0 p1 μ = some μ') : CRS l yX3_lay (ws_ yX3_lay cX3_lay 3 (Option.some (Jvm.ClassFile.FieldType.object "AntennaTuner$Circuit"))) (rmc 5 0 0 110) D d z [.ref (b 4), .int p0, .int p1] (XP d z b fl μ) (fun _ : Unit => b 4) (fun _ => XP d z b fl μ') (fun _ => True) := by
  refine CRS.of (own := RX3) rfl (by decide) (Nat.le_of_ble_eq_true rfl) (Or.inl ⟨_, rfl⟩) ?_
  intro p e s m args below meth c A Q ls S hin hK hP hD hZ hS hA hl hret0
  have hret : ∀ (μx : XS) (H : Heap) (locs : List Loc) (pc : Nat) (ls' : Array Slot), some μx = some μ' → decode cX3_lay pc = .ok (.areturn, 1) → va_P D CL (XP d z b fl μx) H → va_D A (XP d z b fl μx) → va_S A s.heap H locs → W p l e (rmc 5 0 0 110) s m args below meth c H locs 0 0 Q (F0 m pc ls' [.ref (b 4)]) := by
    intro μx H locs pc ls' h9 hdg hP hD hS
    obtain rfl := so_1 h9
    exact hret0 () trivial H locs pc ls' hdg hP hD hS
  have hx := S.1
  have hb := S.2.1
  have hts := S.2.2.2.2
  have hl : lv_has ls 3 [(0, .ref (b 4)), (1, .int p0), (2, .int p1)] := hl
  unfold fX3_lay at hf
  refine lv_aload_n hx hb dX3_lay_0 rfl (lv_at hl 0 rfl) ?_
  refine lv_iload_n hx hb dX3_lay_1 rfl (lv_at hl 1 rfl) ?_
  refine lv_sipush (v := 4096) hx hb dX3_lay_2 (by decide) ?_
  refine lv_idiv hx hb dX3_lay_5 (by decide) ?_
  obtain ⟨ξ_1, e_ξ_1⟩ : ∃ x, x = xI μ 20 (p0 / (4096 : Int32)) := ⟨_, rfl⟩
  refine g_put hx hb hts S.2.2.2.1 hK hP hD hS in_X3 tyX3 tyX3_ok nmX3 4 rfl rfl 0 (by decide) q229 (fun _ h9 => h9) rfl (v := .int (p0 / (4096 : Int32))) rfl rfl rfl (Nat.le_of_ble_eq_true rfl) (w' := XP d z b fl ξ_1) (by subst e_ξ_1; rfl) dX3_lay_6 ?_
  clear hP hD hS
  intro H locs hP hD hS
  replace hf := nm_some hf ξ_1 e_ξ_1
  clear e_ξ_1
  refine lv_aload_n hx hb dX3_lay_9 rfl (lv_at hl 0 rfl) ?_
  refine lv_ldc2 hx hb S.2.2.2.1 (hts _ q1101) dX3_lay_10 ?_
  refine lv_iload_n hx hb dX3_lay_13 rfl (lv_at hl 2 rfl) ?_
  refine lv_i2l (v := p1.toInt64) hx hb dX3_lay_14 rfl ?_
  refine lv_lmul hx hb dX3_lay_15 ?_
  refine lv_aload_n hx hb dX3_lay_16 rfl (lv_at hl 0 rfl) ?_
  refine g_get hx hb hts S.2.2.2.1 hK hP in_X3 4 rfl rfl 6 (by decide) q240 (fun _ h9 => h9) (v := .ref (b 0)) rfl dX3_lay_17 ?_
  refine g_getN hx hb hts S.2.2.2.1 hK hP in_X0 0 rfl rfl 7 (by decide) q289 (fun _ h9 => h9) (v := .ref (b 7)) rfl dX3_lay_20 ?_
  refine g_getN hx hb hts S.2.2.2.1 hK hP in_X6 7 rfl rfl 0 (by decide) q351 (fun _ h9 => h9) (v := .int (ξ_1.1 40)) rfl dX3_lay_23 ?_
  refine lv_i2l (v := (ξ_1.1 40).toInt64) hx hb dX3_lay_26 rfl ?_
  refine lv_lmul hx hb dX3_lay_27 ?_
  refine lv_iload_n hx hb dX3_lay_28 rfl (lv_at hl 1 rfl) ?_
  refine lv_bipush (v := 64) hx hb dX3_lay_29 (by decide) ?_
  refine lv_idiv hx hb dX3_lay_31 (by decide) ?_
  refine lv_bipush (v := 64) hx hb dX3_lay_32 (by decide) ?_
  refine lv_irem hx hb dX3_lay_34 (by decide) ?_
  refine lv_i2l (v := ((p0 / (64 : Int32)) - (p0 / (64 : Int32)) / (64 : Int32) * (64 : Int32)).toInt64) hx hb dX3_lay_35 rfl ?_
  refine lv_lmul hx hb dX3_lay_36 ?_
  refine lv_ldc2 hx hb S.2.2.2.1 (hts _ q1102) dX3_lay_37 ?_
  refine lv_ldiv hx hb dX3_lay_40 (by decide) ?_
  obtain ⟨ξ_2, e_ξ_2⟩ : ∃ x, x = xJ ξ_1 21 (((((6283 : Int64) * p1.toInt64) * ((ξ_1.1 40).toInt64)) * (((p0 / (64 : Int32)) - (p0 / (64 : Int32)) / (64 : Int32) * (64 : Int32)).toInt64)) / (1000000 : Int64)) := ⟨_, rfl⟩
  refine g_put hx hb hts S.2.2.2.1 hK hP hD hS in_X3 tyX3 tyX3_ok nmX3 4 rfl rfl 1 (by decide) q230 (fun _ h9 => h9) rfl (v := .long (((((6283 : Int64) * p1.toInt64) * ((ξ_1.1 40).toInt64)) * (((p0 / (64 : Int32)) - (p0 / (64 : Int32)) / (64 : Int32) * (64 : Int32)).toInt64)) / (1000000 : Int64))) rfl rfl rfl (Nat.le_of_ble_eq_true rfl) (w' := XP d z b fl ξ_2) (by subst e_ξ_2; rfl) dX3_lay_41 ?_
  clear hP hD hS
  intro H locs hP hD hS
  replace hf := nm_some hf ξ_2 e_ξ_2
  clear e_ξ_2
  refine lv_aload_n hx hb dX3_lay_44 rfl (lv_at hl 0 rfl) ?_
  refine lv_ldc2 hx hb S.2.2.2.1 (hts _ q1101) dX3_lay_45 ?_
  refine lv_iload_n hx hb dX3_lay_48 rfl (lv_at hl 2 rfl) ?_
  refine lv_i2l (v := p1.toInt64) hx hb dX3_lay_49 rfl ?_
  refine lv_lmul hx hb dX3_lay_50 ?_
  refine lv_aload_n hx hb dX3_lay_51 rfl (lv_at hl 0 rfl) ?_
  refine g_get hx hb hts S.2.2.2.1 hK hP in_X3 4 rfl rfl 6 (by decide) q240 (fun _ h9 => h9) (v := .ref (b 0)) rfl dX3_lay_52 ?_
  refine g_getN hx hb hts S.2.2.2.1 hK hP in_X0 0 rfl rfl 7 (by decide) q289 (fun _ h9 => h9) (v := .ref (b 7)) rfl dX3_lay_55 ?_
  refine g_getN hx hb hts S.2.2.2.1 hK hP in_X6 7 rfl rfl 2 (by decide) q355 (fun _ h9 => h9) (v := .int (ξ_2.1 42)) rfl dX3_lay_58 ?_
  refine lv_i2l (v := (ξ_2.1 42).toInt64) hx hb dX3_lay_61 rfl ?_
  refine lv_lmul hx hb dX3_lay_62 ?_
  refine lv_iload_n hx hb dX3_lay_63 rfl (lv_at hl 1 rfl) ?_
  refine lv_bipush (v := 64) hx hb dX3_lay_64 (by decide) ?_
  refine lv_irem hx hb dX3_lay_66 (by decide) ?_
  refine lv_i2l (v := (p0 - p0 / (64 : Int32) * (64 : Int32)).toInt64) hx hb dX3_lay_67 rfl ?_
  refine lv_lmul hx hb dX3_lay_68 ?_
  refine lv_ldc2 hx hb S.2.2.2.1 (hts _ q1103) dX3_lay_69 ?_
  refine lv_ldiv hx hb dX3_lay_72 (by decide) ?_
  obtain ⟨ξ_3, e_ξ_3⟩ : ∃ x, x = xJ ξ_2 23 (((((6283 : Int64) * p1.toInt64) * ((ξ_2.1 42).toInt64)) * ((p0 - p0 / (64 : Int32) * (64 : Int32)).toInt64)) / (100000 : Int64)) := ⟨_, rfl⟩
  refine g_put hx hb hts S.2.2.2.1 hK hP hD hS in_X3 tyX3 tyX3_ok nmX3 4 rfl rfl 3 (by decide) q234 (fun _ h9 => h9) rfl (v := .long (((((6283 : Int64) * p1.toInt64) * ((ξ_2.1 42).toInt64)) * ((p0 - p0 / (64 : Int32) * (64 : Int32)).toInt64)) / (100000 : Int64))) rfl rfl rfl (Nat.le_of_ble_eq_true rfl) (w' := XP d z b fl ξ_3) (by subst e_ξ_3; rfl) dX3_lay_73 ?_
  clear hP hD hS
  intro H locs hP hD hS
  replace hf := nm_some hf ξ_3 e_ξ_3
  clear e_ξ_3
  refine lv_aload_n hx hb dX3_lay_76 rfl (lv_at hl 0 rfl) ?_
  refine lv_aload_n hx hb dX3_lay_77 rfl (lv_at hl 0 rfl) ?_
  refine g_get hx hb hts S.2.2.2.1 hK hP in_X3 4 rfl rfl 1 (by decide) q230 (fun _ h9 => h9) (v := .long (ξ_3.2.1 21)) rfl dX3_lay_78 ?_
  refine lv_aload_n hx hb dX3_lay_81 rfl (lv_at hl 0 rfl) ?_
  refine g_get hx hb hts S.2.2.2.1 hK hP in_X3 4 rfl rfl 6 (by decide) q240 (fun _ h9 => h9) (v := .ref (b 0)) rfl dX3_lay_82 ?_
  refine g_getN hx hb hts S.2.2.2.1 hK hP in_X0 0 rfl rfl 7 (by decide) q289 (fun _ h9 => h9) (v := .ref (b 7)) rfl dX3_lay_85 ?_
  refine g_getN hx hb hts S.2.2.2.1 hK hP in_X6 7 rfl rfl 1 (by decide) q353 (fun _ h9 => h9) (v := .int (ξ_3.1 41)) rfl dX3_lay_88 ?_
  refine lv_i2l (v := (ξ_3.1 41).toInt64) hx hb dX3_lay_91 rfl ?_
  obtain ⟨g_4, hf⟩ := ga_some hf
  refine lv_ldiv hx hb dX3_lay_92 g_4 ?_
  obtain ⟨ξ_5, e_ξ_5⟩ : ∃ x, x = xJ ξ_3 22 ((ξ_3.2.1 21) / ((ξ_3.1 41).toInt64)) := ⟨_, rfl⟩
  refine g_put hx hb hts S.2.2.2.1 hK hP hD hS in_X3 tyX3 tyX3_ok nmX3 4 rfl rfl 2 (by decide) q232 (fun _ h9 => h9) rfl (v := .long ((ξ_3.2.1 21) / ((ξ_3.1 41).toInt64))) rfl rfl rfl (Nat.le_of_ble_eq_true rfl) (w' := XP d z b fl ξ_5) (by subst e_ξ_5; rfl) dX3_lay_93 ?_
  clear hP hD hS
  intro H locs hP hD hS
  replace hf := nm_some hf ξ_5 e_ξ_5
  clear e_ξ_5
  refine lv_aload_n hx hb dX3_lay_96 rfl (lv_at hl 0 rfl) ?_
  refine g_get hx hb hts S.2.2.2.1 hK hP in_X3 4 rfl rfl 5 (by decide) q238 (fun _ h9 => h9) (v := .ref (b 6)) rfl dX3_lay_97 ?_
  refine lv_aload_n hx hb dX3_lay_100 rfl (lv_at hl 0 rfl) ?_
  refine g_get hx hb hts S.2.2.2.1 hK hP in_X3 4 rfl rfl 6 (by decide) q240 (fun _ h9 => h9) (v := .ref (b 0)) rfl dX3_lay_101 ?_
  refine g_getN hx hb hts S.2.2.2.1 hK hP in_X0 0 rfl rfl 7 (by decide) q289 (fun _ h9 => h9) (v := .ref (b 7)) rfl dX3_lay_104 ?_
  refine lv_iload_n hx hb dX3_lay_107 rfl (lv_at hl 2 rfl) ?_
  obtain ⟨r_7, h_6, hf⟩ := b1_some hf
  refine run_j0 (wr := [(b 0, .inr (1, [.ref (b 1), .int (ξ_5.1 1), .int (ξ_5.1 2), .ref (b 2), .ref (b 3), .ref (b 4), va_rf fl, .ref (b 7), .ref (b 13), .ref (b 16), .int (ξ_5.1 10)])), (b 1, .inl (d 2, 500, .inl (ξ_5.2.2.1 1))), (b 2, .inl (d 5, 2, .inr (.inr (.inr (.inr (fun j => some (z.2.2 j))))))), (b 3, .inl (d 6, 5, .inr (.inr (.inr (.inr (fun j => some (z.2.2 (2 + j)))))))), (b 4, .inr (4, [.int (ξ_5.1 20), .long (ξ_5.2.1 21), .long (ξ_5.2.1 22), .long (ξ_5.2.1 23), .ref (b 5), .ref (b 6), .ref (b 0)])), (b 5, .inr (2, [.long (ξ_5.2.1 30), .long (ξ_5.2.1 31)])), (b 6, .inr (2, [.long (ξ_5.2.1 32), .long (ξ_5.2.1 33)])), (b 13, .inr (8, [.int (ξ_5.1 60), .int (ξ_5.1 61), .int (ξ_5.1 62), .int (ξ_5.1 63), .ref (b 14), .ref (b 15), .int (ξ_5.1 66), .ref (b 17)])), (b 14, .inl (d 0, 100, .inl (ξ_5.2.2.1 64))), (b 15, .inl (d 3, 100, .inl (ξ_5.2.2.1 65)))]) (w' := XP d z b fl ξ_5) (va_runV (As := [.int p1]) (rest := [.ref (b 6)]) S (tX6_resistance l D d z b K p1 ξ_5 r_7 h_6 _) (cwV 1 hts (lw_V q1104 q865 q866 q103 q867) rfl rfl rfl (by decide +kernel) ⟨(Nat.le_of_ble_eq_true rfl), (Nat.le_of_ble_eq_true rfl)⟩) ⟨Pw.blind, (va_recv hK.1 hP (ci := 6) (q0 := 7) rfl rfl), fun U hU hW => Pw.cut (tl := []) hK (by rw [List.append_nil]; exact hP) (by rw [List.append_nil]; exact hD) hZ hS hA [7, 8, 9, 10, 11, 12] rfl rfl hU hW⟩ rfl rfl hl.1 rfl (lv_room (Nat.le_of_ble_eq_true rfl)) dX3_lay_108 ⟨(Nat.le_of_ble_eq_true rfl), (Nat.le_of_ble_eq_true rfl)⟩) hP hD hS hA [7, 8, 9, 10, 11, 12] [0, 1, 2, 3, 4, 5, 6, 13, 14, 15] [0, 1, 2, 3, 4, 5, 6, 10, 11, 12, 13, 14, 15, 7, 8, 9] rfl rfl rfl rfl (by decide) rfl rfl ?_
  clear hP hD hS
  intro H locs hP hD hS
  clear h_6
  refine lv_aload_n hx hb dX3_lay_111 rfl (lv_at hl 0 rfl) ?_
  refine g_get hx hb hts S.2.2.2.1 hK hP in_X3 4 rfl rfl 6 (by decide) q240 (fun _ h9 => h9) (v := .ref (b 0)) rfl dX3_lay_112 ?_
  refine g_getN hx hb hts S.2.2.2.1 hK hP in_X0 0 rfl rfl 7 (by decide) q289 (fun _ h9 => h9) (v := .ref (b 7)) rfl dX3_lay_115 ?_
  refine lv_iload_n hx hb dX3_lay_118 rfl (lv_at hl 2 rfl) ?_
  obtain ⟨r_9, h_8, hf⟩ := b1_some hf
  refine run_j0 (wr := [(b 0, .inr (1, [.ref (b 1), .int (ξ_5.1 1), .int (ξ_5.1 2), .ref (b 2), .ref (b 3), .ref (b 4), va_rf fl, .ref (b 7), .ref (b 13), .ref (b 16), .int (ξ_5.1 10)])), (b 1, .inl (d 2, 500, .inl (ξ_5.2.2.1 1))), (b 2, .inl (d 5, 2, .inr (.inr (.inr (.inr (fun j => some (z.2.2 j))))))), (b 3, .inl (d 6, 5, .inr (.inr (.inr (.inr (fun j => some (z.2.2 (2 + j)))))))), (b 4, .inr (4, [.int (ξ_5.1 20), .long (ξ_5.2.1 21), .long (ξ_5.2.1 22), .long (ξ_5.2.1 23), .ref (b 5), .ref (b 6), .ref (b 0)])), (b 5, .inr (2, [.long (ξ_5.2.1 30), .long (ξ_5.2.1 31)])), (b 6, .inr (2, [.long (ξ_5.2.1 32), .long (ξ_5.2.1 33)])), (b 13, .inr (8, [.int (ξ_5.1 60), .int (ξ_5.1 61), .int (ξ_5.1 62), .int (ξ_5.1 63), .ref (b 14), .ref (b 15), .int (ξ_5.1 66), .ref (b 17)])), (b 14, .inl (d 0, 100, .inl (ξ_5.2.2.1 64))), (b 15, .inl (d 3, 100, .inl (ξ_5.2.2.1 65)))]) (w' := XP d z b fl ξ_5) (va_runV (As := [.int p1]) (rest := [.long r_7, .ref (b 6)]) S (tX6_reactance l D d z b K p1 ξ_5 r_9 h_8 _) (cwV 1 hts (lw_V q1105 q878 q879 q103 q880) rfl rfl rfl (by decide +kernel) ⟨(Nat.le_of_ble_eq_true rfl), (Nat.le_of_ble_eq_true rfl)⟩) ⟨Pw.blind, (va_recv hK.1 hP (ci := 6) (q0 := 7) rfl rfl), fun U hU hW => Pw.cut (tl := []) hK (by rw [List.append_nil]; exact hP) (by rw [List.append_nil]; exact hD) hZ hS hA [7, 8, 9, 10, 11, 12] rfl rfl hU hW⟩ rfl rfl hl.1 rfl (lv_room (Nat.le_of_ble_eq_true rfl)) dX3_lay_119 ⟨(Nat.le_of_ble_eq_true rfl), (Nat.le_of_ble_eq_true rfl)⟩) hP hD hS hA [7, 8, 9, 10, 11, 12] [0, 1, 2, 3, 4, 5, 6, 13, 14, 15] [0, 1, 2, 3, 4, 5, 6, 10, 11, 12, 13, 14, 15, 7, 8, 9] rfl rfl rfl rfl (by decide) rfl rfl ?_
  clear hP hD hS
  intro H locs hP hD hS
  clear h_8
  obtain ⟨ξ_11, h_10, hf⟩ := b1_some hf
  obtain ⟨ξ_12, e_ξ_12⟩ : ∃ x, x = xJ (xJ ξ_5 32 ξ_11.1) 33 ξ_11.2 := ⟨_, rfl⟩
  refine run_v0 (wr := [(b 0, .inr (1, [.ref (b 1), .int (ξ_5.1 1), .int (ξ_5.1 2), .ref (b 2), .ref (b 3), .ref (b 4), va_rf fl, .ref (b 7), .ref (b 13), .ref (b 16), .int (ξ_5.1 10)])), (b 1, .inl (d 2, 500, .inl (ξ_5.2.2.1 1))), (b 2, .inl (d 5, 2, .inr (.inr (.inr (.inr (fun j => some (z.2.2 j))))))), (b 3, .inl (d 6, 5, .inr (.inr (.inr (.inr (fun j => some (z.2.2 (2 + j)))))))), (b 4, .inr (4, [.int (ξ_5.1 20), .long (ξ_5.2.1 21), .long (ξ_5.2.1 22), .long (ξ_5.2.1 23), .ref (b 5), .ref (b 6), .ref (b 0)])), (b 5, .inr (2, [.long (ξ_5.2.1 30), .long (ξ_5.2.1 31)])), (b 7, .inr (6, [.int (ξ_5.1 40), .int (ξ_5.1 41), .int (ξ_5.1 42), .int (ξ_5.1 43), .int (ξ_5.1 44), .int (ξ_5.1 45), .ref (b 8), .ref (b 9), .ref (b 10), .int (ξ_5.1 49), .ref (b 11), .ref (b 12), .int (ξ_5.1 52)])), (b 8, .inl (d 0, 16, .inl (ξ_5.2.2.1 46))), (b 9, .inl (d 1, 16, .inr (.inl (ξ_5.2.2.2.1 47)))), (b 10, .inl (d 1, 16, .inr (.inl (ξ_5.2.2.2.1 48)))), (b 11, .inl (d 0, 8, .inl (ξ_5.2.2.1 50))), (b 12, .inl (d 0, 8, .inl (ξ_5.2.2.1 51))), (b 13, .inr (8, [.int (ξ_5.1 60), .int (ξ_5.1 61), .int (ξ_5.1 62), .int (ξ_5.1 63), .ref (b 14), .ref (b 15), .int (ξ_5.1 66), .ref (b 17)])), (b 14, .inl (d 0, 100, .inl (ξ_5.2.2.1 64))), (b 15, .inl (d 3, 100, .inl (ξ_5.2.2.1 65)))]) (w' := XP d z b fl ξ_12) (va_runV (As := [.long r_7, .long r_9]) (rest := []) S (tX1_set l D d z (b 6) K r_7 r_9 (ξ_5.2.1 32, ξ_5.2.1 33) ξ_11 h_10 _) (cwV 2 hts (lw_V q1106 q154 q155 q95 q156) rfl rfl rfl (by decide +kernel) ⟨(Nat.le_of_ble_eq_true rfl), (Nat.le_of_ble_eq_true rfl)⟩) ⟨Pw.blind, (va_recv hK.1 hP (ci := 2) (q0 := 6) rfl rfl), fun U hU hW => Pw.cut (tl := []) hK (by rw [List.append_nil]; exact hP) (by rw [List.append_nil]; exact hD) hZ hS hA [6] rfl rfl hU hW⟩ rfl rfl hl.1 rfl (lv_room (Nat.le_of_ble_eq_true rfl)) dX3_lay_122 ⟨(Nat.le_of_ble_eq_true rfl), (Nat.le_of_ble_eq_true rfl)⟩) hP hD hS hA [6] [0, 1, 2, 3, 4, 5, 7, 8, 9, 10, 11, 12, 13, 14, 15] [0, 1, 2, 3, 4, 5, 15, 6, 7, 8, 9, 10, 11, 12, 13, 14] rfl rfl rfl rfl (by decide) rfl (by subst e_ξ_12; rfl) ?_
  clear hP hD hS
  intro H locs hP hD hS
  clear h_10
  replace hf := nm_some hf ξ_12 e_ξ_12
  clear e_ξ_12
  refine lv_aload_n hx hb dX3_lay_125 rfl (lv_at hl 0 rfl) ?_
  refine g_get hx hb hts S.2.2.2.1 hK hP in_X3 4 rfl rfl 6 (by decide) q240 (fun _ h9 => h9) (v := .ref (b 0)) rfl dX3_lay_126 ?_
  refine g_getN hx hb hts S.2.2.2.1 hK hP in_X0 0 rfl rfl 3 (by decide) q282 (fun _ h9 => h9) (v := .ref (b 2)) rfl dX3_lay_129 ?_
  refine lv_aload_n hx hb dX3_lay_132 rfl (lv_at hl 0 rfl) ?_
  refine g_get hx hb hts S.2.2.2.1 hK hP in_X3 4 rfl rfl 0 (by decide) q229 (fun _ h9 => h9) (v := .int (ξ_12.1 20)) rfl dX3_lay_133 ?_
  obtain ⟨g_13, hf⟩ := ga_some hf
  refine g_aald hx hb hK hP 2 5 rfl rfl (ix_in g_13) dX3_lay_136 ?_
  refine lv_aload_n hx hb dX3_lay_137 rfl (lv_at hl 0 rfl) ?_
  by_cases c_14 : (ξ_12.1 20) = 0
  · replace hf := it_t hf c_14
    rw [show z.2.2 (ξ_12.1 20).toNatClampNeg = z.2.2 0 from by rw [c_14]; rfl]
    obtain ⟨ξ_15, h_16, hf⟩ := b1_some hf
    refine run5_v0 (wr := []) (w' := XP d z b fl ξ_15) (lam_run (As := [.ref (b 4)]) (rest := []) (j := 0) S (by decide) (hZ.2.2.2.2.2.2.1 0 (by decide)) hS (tX0_capacitorFirst l D d z b fl K ξ_12 ξ_15 h_16 _) q1108 q140 q94 q141 rfl rfl ⟨(Nat.le_of_ble_eq_true rfl), (Nat.le_of_ble_eq_true rfl)⟩ ⟨Pw.blind, fun U hU hW => Pw.cut (tl := []) hK (by rw [List.append_nil]; exact hP) (by rw [List.append_nil]; exact hD) hZ hS hA [0, 1, 2, 3, 4, 5, 6, 7, 8, 9, 10, 11, 12, 13, 14, 15] rfl rfl hU hW⟩ rfl (by rw [if_pos (by decide)]; exact ⟨_, rfl⟩) hl.1 rfl (lv_room (Nat.le_of_ble_eq_true rfl)) dX3_lay_138 ⟨(Nat.le_of_ble_eq_true rfl), (Nat.le_of_ble_eq_true rfl)⟩ (lam_hvV (by decide))) hP hD hS hA [0, 1, 2, 3, 4, 5, 6, 7, 8, 9, 10, 11, 12, 13, 14, 15] [] [0, 1, 2, 3, 4, 5, 6, 7, 8, 9, 10, 11, 12, 13, 14, 15] rfl rfl rfl rfl (by decide) rfl rfl ?_
    clear hP hD hS
    intro H locs hP hD hS
    clear h_16
    refine lv_aload_n hx hb dX3_lay_143 rfl (lv_at hl 0 rfl) ?_
    refine W.widen (k := 0) (n := 0) (Nat.le_of_ble_eq_true rfl) (Nat.le_of_ble_eq_true rfl) ?_
    exact hret _ _ _ _ _ hf dX3_lay_144 hP hD hS
  · replace hf := it_f hf c_14
    obtain ⟨g_19, hf⟩ := ga_some hf
    rw [show z.2.2 (ξ_12.1 20).toNatClampNeg = z.2.2 1 from by rw [g_19]; rfl]
    obtain ⟨ξ_17, h_18, hf⟩ := b1_some hf
    refine run5_v0 (wr := []) (w' := XP d z b fl ξ_17) (lam_run (As := [.ref (b 4)]) (rest := []) (j := 1) S (by decide) (hZ.2.2.2.2.2.2.1 1 (by decide)) hS (tX0_coilFirst l D d z b fl K ξ_12 ξ_17 h_18 _) q1108 q172 q94 q173 rfl rfl ⟨(Nat.le_of_ble_eq_true rfl), (Nat.le_of_ble_eq_true rfl)⟩ ⟨Pw.blind, fun U hU hW => Pw.cut (tl := []) hK (by rw [List.append_nil]; exact hP) (by rw [List.append_nil]; exact hD) hZ hS hA [0, 1, 2, 3, 4, 5, 6, 7, 8, 9, 10, 11, 12, 13, 14, 15] rfl rfl hU hW⟩ rfl (by rw [if_pos (by decide)]; exact ⟨_, rfl⟩) hl.1 rfl (lv_room (Nat.le_of_ble_eq_true rfl)) dX3_lay_138 ⟨(Nat.le_of_ble_eq_true rfl), (Nat.le_of_ble_eq_true rfl)⟩ (lam_hvV (by decide))) hP hD hS hA [0, 1, 2, 3, 4, 5, 6, 7, 8, 9, 10, 11, 12, 13, 14, 15] [] [0, 1, 2, 3, 4, 5, 6, 7, 8, 9, 10, 11, 12, 13, 14, 15] rfl rfl rfl rfl (by decide) rfl rfl ?_
    clear hP hD hS
    intro H locs hP hD hS
    clear h_18
    refine lv_aload_n hx hb dX3_lay_143 rfl (lv_at hl 0 rfl) ?_
    refine W.widen (k := 0) (n := 0) (Nat.le_of_ble_eq_true rfl) (Nat.le_of_ble_eq_true rfl) ?_
    exact hret _ _ _ _ _ hf dX3_lay_144 hP hD hS
def fX3_swr (K : Nat) (μ : XS) : Option (Int32 × XS) :=
  b2 (fX1_swr K (μ.2.1 32, μ.2.1 33)) fun r_2 ξ_3 =>
  nm (xJ (xJ μ 32 ξ_3.1) 33 ξ_3.2) fun ξ_4 =>
  some (r_2, ξ_4)
set_option maxHeartbeats 4000000 in
set_option maxRecDepth 100000 in
theorem tX3_swr (l : Launch) (D : va_G) (d : Nat → ClassId) (z : ZT) (b : Nat → Nat) (fl : Option Nat) (K : Nat) (μ : XS) (r : Int32) (μ' : XS) (hf : fX3_swr K μ = some (r, μ')) : CI l yX3_swr (ws_ yX3_swr cX3_swr 1 (Option.some Jvm.ClassFile.FieldType.int)) (rmc 2 0 0 51) D d z [.ref (b 4)] (XP d z b fl μ) r (XP d z b fl μ') := by
  refine CI.of2 (own := RX3) rfl (by decide) (Nat.le_of_ble_eq_true rfl) rfl ?_
  intro p e s m args below meth c A Q ls S hin hK hP hD hZ hS hA hl hret0
  have hret : ∀ (x : Int32) (μx : XS) (H : Heap) (locs : List Loc) (pc : Nat) (ls' : Array Slot), some (x, μx) = some (r, μ') → decode cX3_swr pc = .ok (.ireturn, 1) → va_P D CL (XP d z b fl μx) H → va_D A (XP d z b fl μx) → va_S A s.heap H locs → W p l e (rmc 2 0 0 51) s m args below meth c H locs 0 0 Q (F0 m pc ls' [.int x]) := by
    intro x μx H locs pc ls' h9 hdg hP hD hS
    obtain ⟨rfl, rfl⟩ := so_2 h9
    exact hret0 H locs pc ls' hdg hP hD hS
  have hx := S.1
  have hb := S.2.1
  have hts := S.2.2.2.2
  have hl : lv_has ls 1 [(0, .ref (b 4))] := hl
  unfold fX3_swr at hf
  refine lv_aload_n hx hb dX3_swr_0 rfl (lv_at hl 0 rfl) ?_
  refine g_get hx hb hts S.2.2.2.1 hK hP in_X3 4 rfl rfl 5 (by decide) q238 (fun _ h9 => h9) (v := .ref (b 6)) rfl dX3_swr_1 ?_
  obtain ⟨r_2, ξ_3, h_1, hf⟩ := b2_some hf
  obtain ⟨ξ_4, e_ξ_4⟩ : ∃ x, x = xJ (xJ μ 32 ξ_3.1) 33 ξ_3.2 := ⟨_, rfl⟩
  refine run_i0 (wr := [(b 0, .inr (1, [.ref (b 1), .int (μ.1 1), .int (μ.1 2), .ref (b 2), .ref (b 3), .ref (b 4), va_rf fl, .ref (b 7), .ref (b 13), .ref (b 16), .int (μ.1 10)])), (b 1, .inl (d 2, 500, .inl (μ.2.2.1 1))), (b 2, .inl (d 5, 2, .inr (.inr (.inr (.inr (fun j => some (z.2.2 j))))))), (b 3, .inl (d 6, 5, .inr (.inr (.inr (.inr (fun j => some (z.2.2 (2 + j)))))))), (b 4, .inr (4, [.int (μ.1 20), .long (μ.2.1 21), .long (μ.2.1 22), .long (μ.2.1 23), .ref (b 5), .ref (b 6), .ref (b 0)])), (b 5, .inr (2, [.long (μ.2.1 30), .long (μ.2.1 31)])), (b 7, .inr (6, [.int (μ.1 40), .int (μ.1 41), .int (μ.1 42), .int (μ.1 43), .int (μ.1 44), .int (μ.1 45), .ref (b 8), .ref (b 9), .ref (b 10), .int (μ.1 49), .ref (b 11), .ref (b 12), .int (μ.1 52)])), (b 8, .inl (d 0, 16, .inl (μ.2.2.1 46))), (b 9, .inl (d 1, 16, .inr (.inl (μ.2.2.2.1 47)))), (b 10, .inl (d 1, 16, .inr (.inl (μ.2.2.2.1 48)))), (b 11, .inl (d 0, 8, .inl (μ.2.2.1 50))), (b 12, .inl (d 0, 8, .inl (μ.2.2.1 51))), (b 13, .inr (8, [.int (μ.1 60), .int (μ.1 61), .int (μ.1 62), .int (μ.1 63), .ref (b 14), .ref (b 15), .int (μ.1 66), .ref (b 17)])), (b 14, .inl (d 0, 100, .inl (μ.2.2.1 64))), (b 15, .inl (d 3, 100, .inl (μ.2.2.1 65)))]) (w' := XP d z b fl ξ_4) (va_runV (As := []) (rest := []) S (tX1_swr l D d z (b 6) K (μ.2.1 32, μ.2.1 33) r_2 ξ_3 h_1 _) (cwV 0 hts (lw_V q1123 q1124 q1125 q95 q1126) rfl rfl rfl (by decide +kernel) ⟨(Nat.le_of_ble_eq_true rfl), (Nat.le_of_ble_eq_true rfl)⟩) ⟨Pw.blind, (va_recv hK.1 hP (ci := 2) (q0 := 6) rfl rfl), fun U hU hW => Pw.cut (tl := []) hK (by rw [List.append_nil]; exact hP) (by rw [List.append_nil]; exact hD) hZ hS hA [6] rfl rfl hU hW⟩ rfl rfl hl.1 rfl (lv_room (Nat.le_of_ble_eq_true rfl)) dX3_swr_4 ⟨(Nat.le_of_ble_eq_true rfl), (Nat.le_of_ble_eq_true rfl)⟩) hP hD hS hA [6] [0, 1, 2, 3, 4, 5, 7, 8, 9, 10, 11, 12, 13, 14, 15] [0, 1, 2, 3, 4, 5, 15, 6, 7, 8, 9, 10, 11, 12, 13, 14] rfl rfl rfl rfl (by decide) rfl (by subst e_ξ_4; rfl) ?_
  clear hP hD hS
  intro H locs hP hD hS
  clear h_1
  replace hf := nm_some hf ξ_4 e_ξ_4
  clear e_ξ_4
  refine W.widen (k := 0) (n := 0) (Nat.le_of_ble_eq_true rfl) (Nat.le_of_ble_eq_true rfl) ?_
  exact hret _ _ _ _ _ _ hf dX3_swr_7 hP hD hS
def fX3_efficiency (K : Nat) (μ : XS) : Option (Int32 × XS) :=
  nm ((μ.2.1 30) + (μ.2.1 22)) fun v_1 =>
  if v_1 = (0 : Int64) then
    some ((0 : Int32), μ)
  else
    ga (¬ v_1 = 0) <|
    some ((((1000 : Int64) * (μ.2.1 30)) / v_1).toInt32, μ)
set_option maxHeartbeats 4000000 in
set_option maxRecDepth 100000 in
theorem tX3_efficiency (l : Launch) (D : va_G) (d : Nat → ClassId) (z : ZT) (b : Nat → Nat) (fl : Option Nat) (K : Nat) (μ : XS) (r : Int32) (μ' : XS) (hf : fX3_efficiency K μ = some (r, μ')) : CI l yX3_efficiency (ws_ yX3_efficiency cX3_efficiency 3 (Option.some Jvm.ClassFile.FieldType.int)) (rmc 0 0 0 0) D d z [.ref (b 4)] (XP d z b fl μ) r (XP d z b fl μ') := by
  refine CI.of2 (own := RX3) rfl (by decide) (Nat.le_of_ble_eq_true rfl) rfl ?_
  intro p e s m args below meth c A Q ls S hin hK hP hD hZ hS hA hl hret0
  have hret : ∀ (x : Int32) (μx : XS) (H : Heap) (locs : List Loc) (pc : Nat) (ls' : Array Slot), some (x, μx) = some (r, μ') → decode cX3_efficiency pc = .ok (.ireturn, 1) → va_P D CL (XP d z b fl μx) H → va_D A (XP d z b fl μx) → va_S A s.heap H locs → W p l e (rmc 0 0 0 0) s m args below meth c H locs 0 0 Q (F0 m pc ls' [.int x]) := by
    intro x μx H locs pc ls' h9 hdg hP hD hS
    obtain ⟨rfl, rfl⟩ := so_2 h9
    exact hret0 H locs pc ls' hdg hP hD hS
  have hx := S.1
  have hb := S.2.1
  have hts := S.2.2.2.2
  have hl : lv_has ls 3 [(0, .ref (b 4))] := hl
  unfold fX3_efficiency at hf
  refine lv_aload_n hx hb dX3_efficiency_0 rfl (lv_at hl 0 rfl) ?_
  refine g_get hx hb hts S.2.2.2.1 hK hP in_X3 4 rfl rfl 4 (by decide) q236 (fun _ h9 => h9) (v := .ref (b 5)) rfl dX3_efficiency_1 ?_
  refine g_getN hx hb hts S.2.2.2.1 hK hP in_X1 5 rfl rfl 0 (by decide) q221 (fun _ h9 => h9) (v := .long (μ.2.1 30)) rfl dX3_efficiency_4 ?_
  refine lv_aload_n hx hb dX3_efficiency_7 rfl (lv_at hl 0 rfl) ?_
  refine g_get hx hb hts S.2.2.2.1 hK hP in_X3 4 rfl rfl 2 (by decide) q232 (fun _ h9 => h9) (v := .long (μ.2.1 22)) rfl dX3_efficiency_8 ?_
  refine lv_ladd hx hb dX3_efficiency_11 ?_
  refine lv_topl (fun v_1 e_ => ?_)
  replace hf := nm_some hf v_1 e_
  clear e_
  refine lv_lstore_n (lv' := [(1, .long v_1), (0, .ref (b 4))]) hx hb dX3_efficiency_12 rfl hl (by decide) rfl (fun ls hl => ?_)
  refine lv_lload_n hx hb dX3_efficiency_13 rfl (lv_at hl 0 rfl) ?_
  refine lv_lconst (v := 0) hx hb dX3_efficiency_14 (by decide) ?_
  refine g_lcmp_ne (tgt := 23) hx hb dX3_efficiency_15 dX3_efficiency_16 (by decide) (fun c_2 => ?_) (fun c_2 => ?_)
  · replace hf := it_f hf c_2
    clear c_2
    refine lv_ldc2 hx hb S.2.2.2.1 (hts _ q1160) dX3_efficiency_23 ?_
    refine lv_aload_n hx hb dX3_efficiency_26 rfl (lv_at hl 1 rfl) ?_
    refine g_get hx hb hts S.2.2.2.1 hK hP in_X3 4 rfl rfl 4 (by decide) q236 (fun _ h9 => h9) (v := .ref (b 5)) rfl dX3_efficiency_27 ?_
    refine g_getN hx hb hts S.2.2.2.1 hK hP in_X1 5 rfl rfl 0 (by decide) q221 (fun _ h9 => h9) (v := .long (μ.2.1 30)) rfl dX3_efficiency_30 ?_
    refine lv_lmul hx hb dX3_efficiency_33 ?_
    refine lv_lload_n hx hb dX3_efficiency_34 rfl (lv_at hl 0 rfl) ?_
    obtain ⟨g_3, hf⟩ := ga_some hf
    refine lv_ldiv hx hb dX3_efficiency_35 g_3 ?_
    refine lv_l2i (v := (((1000 : Int64) * (μ.2.1 30)) / v_1).toInt32) hx hb dX3_efficiency_36 rfl ?_
    refine W.widen (k := 0) (n := 0) (Nat.le_of_ble_eq_true rfl) (Nat.le_of_ble_eq_true rfl) ?_
    exact hret _ _ _ _ _ _ hf dX3_efficiency_37 hP hD hS
  · replace hf := it_t hf c_2
    clear c_2
    refine lv_iconst (v := 0) hx hb dX3_efficiency_19 (by decide) ?_
    refine lv_goto (tgt := 37) hx hb dX3_efficiency_20 (by decide) ?_
    refine W.widen (k := 0) (n := 0) (Nat.le_of_ble_eq_true rfl) (Nat.le_of_ble_eq_true rfl) ?_
    exact hret _ _ _ _ _ _ hf dX3_efficiency_37 hP hD hS
def fX3_voltageWith (K : Nat) (p0 : Int32) (μ : XS) : Option (Int32 × XS) :=
  if (μ.1 20) = 0 then
    b2 (fX3_efficiency K μ) fun r_7 ξ_8 =>
    b2 (fX1_voltageWith K ((p0 * r_7) / (1000 : Int32)) (ξ_8.2.1 30, ξ_8.2.1 31)) fun r_10 ξ_11 =>
    nm (xJ (xJ ξ_8 30 ξ_11.1) 31 ξ_11.2) fun ξ_12 =>
    some (r_10, ξ_12)
  else
    b2 (fX1_voltageWith K p0 (μ.2.1 32, μ.2.1 33)) fun r_3 ξ_4 =>
    nm (xJ (xJ μ 32 ξ_4.1) 33 ξ_4.2) fun ξ_5 =>
    some (r_3, ξ_5)
set_option maxHeartbeats 4000000 in
set_option maxRecDepth 100000 in
theorem tX3_voltageWith (l : Launch) (D : va_G) (d : Nat → ClassId) (z : ZT) (b : Nat → Nat) (fl : Option Nat) (K : Nat) (p0 : Int32) (μ : XS) (r : Int32) (μ' : XS) (hf : fX3_voltageWith K p0 μ = some (r, μ')) : CI l yX3_voltageWith (ws_ yX3_voltageWith cX3_voltageWith 2 (Option.some Jvm.ClassFile.FieldType.int)) (rmc 2 0 0 50) D d z [.ref (b 4), .int p0] (XP d z b fl μ) r (XP d z b fl μ') := by
  refine CI.of2 (own := RX3) rfl (by decide) (Nat.le_of_ble_eq_true rfl) rfl ?_
  intro p e s m args below meth c A Q ls S hin hK hP hD hZ hS hA hl hret0
  have hret : ∀ (x : Int32) (μx : XS) (H : Heap) (locs : List Loc) (pc : Nat) (ls' : Array Slot), some (x, μx) = some (r, μ') → decode cX3_voltageWith pc = .ok (.ireturn, 1) → va_P D CL (XP d z b fl μx) H → va_D A (XP d z b fl μx) → va_S A s.heap H locs → W p l e (rmc 2 0 0 50) s m args below meth c H locs 0 0 Q (F0 m pc ls' [.int x]) := by
    intro x μx H locs pc ls' h9 hdg hP hD hS
    obtain ⟨rfl, rfl⟩ := so_2 h9
    exact hret0 H locs pc ls' hdg hP hD hS
  have hx := S.1
  have hb := S.2.1
  have hts := S.2.2.2.2
  have hl : lv_has ls 2 [(0, .ref (b 4)), (1, .int p0)] := hl
  unfold fX3_voltageWith at hf
  refine lv_aload_n hx hb dX3_voltageWith_0 rfl (lv_at hl 0 rfl) ?_
  refine g_get hx hb hts S.2.2.2.1 hK hP in_X3 4 rfl rfl 0 (by decide) q229 (fun _ h9 => h9) (v := .int (μ.1 20)) rfl dX3_voltageWith_1 ?_
  refine lv_if_ne (tgt := 27) hx hb dX3_voltageWith_4 (by decide) (fun c_1 => ?_) (fun c_1 => ?_)
  · replace hf := it_f hf c_1
    clear c_1
    refine lv_aload_n hx hb dX3_voltageWith_27 rfl (lv_at hl 0 rfl) ?_
    refine g_get hx hb hts S.2.2.2.1 hK hP in_X3 4 rfl rfl 5 (by decide) q238 (fun _ h9 => h9) (v := .ref (b 6)) rfl dX3_voltageWith_28 ?_
    refine lv_iload_n hx hb dX3_voltageWith_31 rfl (lv_at hl 1 rfl) ?_
    obtain ⟨r_3, ξ_4, h_2, hf⟩ := b2_some hf
    obtain ⟨ξ_5, e_ξ_5⟩ : ∃ x, x = xJ (xJ μ 32 ξ_4.1) 33 ξ_4.2 := ⟨_, rfl⟩
    refine run_i0 (wr := [(b 0, .inr (1, [.ref (b 1), .int (μ.1 1), .int (μ.1 2), .ref (b 2), .ref (b 3), .ref (b 4), va_rf fl, .ref (b 7), .ref (b 13), .ref (b 16), .int (μ.1 10)])), (b 1, .inl (d 2, 500, .inl (μ.2.2.1 1))), (b 2, .inl (d 5, 2, .inr (.inr (.inr (.inr (fun j => some (z.2.2 j))))))), (b 3, .inl (d 6, 5, .inr (.inr (.inr (.inr (fun j => some (z.2.2 (2 + j)))))))), (b 4, .inr (4, [.int (μ.1 20), .long (μ.2.1 21), .long (μ.2.1 22), .long (μ.2.1 23), .ref (b 5), .ref (b 6), .ref (b 0)])), (b 5, .inr (2, [.long (μ.2.1 30), .long (μ.2.1 31)])), (b 7, .inr (6, [.int (μ.1 40), .int (μ.1 41), .int (μ.1 42), .int (μ.1 43), .int (μ.1 44), .int (μ.1 45), .ref (b 8), .ref (b 9), .ref (b 10), .int (μ.1 49), .ref (b 11), .ref (b 12), .int (μ.1 52)])), (b 8, .inl (d 0, 16, .inl (μ.2.2.1 46))), (b 9, .inl (d 1, 16, .inr (.inl (μ.2.2.2.1 47)))), (b 10, .inl (d 1, 16, .inr (.inl (μ.2.2.2.1 48)))), (b 11, .inl (d 0, 8, .inl (μ.2.2.1 50))), (b 12, .inl (d 0, 8, .inl (μ.2.2.1 51))), (b 13, .inr (8, [.int (μ.1 60), .int (μ.1 61), .int (μ.1 62), .int (μ.1 63), .ref (b 14), .ref (b 15), .int (μ.1 66), .ref (b 17)])), (b 14, .inl (d 0, 100, .inl (μ.2.2.1 64))), (b 15, .inl (d 3, 100, .inl (μ.2.2.1 65)))]) (w' := XP d z b fl ξ_5) (va_runV (As := [.int p0]) (rest := []) S (tX1_voltageWith l D d z (b 6) K p0 (μ.2.1 32, μ.2.1 33) r_3 ξ_4 h_2 _) (cwV 1 hts (lw_V q1174 q1175 q1176 q95 q1177) rfl rfl rfl (by decide +kernel) ⟨(Nat.le_of_ble_eq_true rfl), (Nat.le_of_ble_eq_true rfl)⟩) ⟨Pw.blind, (va_recv hK.1 hP (ci := 2) (q0 := 6) rfl rfl), fun U hU hW => Pw.cut (tl := []) hK (by rw [List.append_nil]; exact hP) (by rw [List.append_nil]; exact hD) hZ hS hA [6] rfl rfl hU hW⟩ rfl rfl hl.1 rfl (lv_room (Nat.le_of_ble_eq_true rfl)) dX3_voltageWith_32 ⟨(Nat.le_of_ble_eq_true rfl), (Nat.le_of_ble_eq_true rfl)⟩) hP hD hS hA [6] [0, 1, 2, 3, 4, 5, 7, 8, 9, 10, 11, 12, 13, 14, 15] [0, 1, 2, 3, 4, 5, 15, 6, 7, 8, 9, 10, 11, 12, 13, 14] rfl rfl rfl rfl (by decide) rfl (by subst e_ξ_5; rfl) ?_
    clear hP hD hS
    intro H locs hP hD hS
    clear h_2
    replace hf := nm_some hf ξ_5 e_ξ_5
    clear e_ξ_5
    refine W.widen (k := 0) (n := 0) (Nat.le_of_ble_eq_true rfl) (Nat.le_of_ble_eq_true rfl) ?_
    exact hret _ _ _ _ _ _ hf dX3_voltageWith_35 hP hD hS
  · replace hf := it_t hf c_1
    clear c_1
    refine lv_aload_n hx hb dX3_voltageWith_7 rfl (lv_at hl 0 rfl) ?_
    refine g_get hx hb hts S.2.2.2.1 hK hP in_X3 4 rfl rfl 4 (by decide) q236 (fun _ h9 => h9) (v := .ref (b 5)) rfl dX3_voltageWith_8 ?_
    refine lv_iload_n hx hb dX3_voltageWith_11 rfl (lv_at hl 1 rfl) ?_
    refine lv_aload_n hx hb dX3_voltageWith_12 rfl (lv_at hl 0 rfl) ?_
    obtain ⟨r_7, ξ_8, h_6, hf⟩ := b2_some hf
    refine runW_i (va_runV (As := []) (rest := [.int p0, .ref (b 5)]) S (tX3_efficiency l D d z b fl K μ r_7 ξ_8 h_6 _) (cwV 0 hts (lw_V q1173 q1157 q1158 q98 q1159) rfl rfl rfl (by decide +kernel) ⟨(Nat.le_of_ble_eq_true rfl), (Nat.le_of_ble_eq_true rfl)⟩) ⟨Pw.blind, (va_recv hK.1 hP (ci := 4) (q0 := 4) rfl rfl), fun U hU hW => Pw.at hK hP hD hZ hS hA hU hW⟩ rfl rfl hl.1 rfl (lv_room (Nat.le_of_ble_eq_true rfl)) dX3_voltageWith_13 ⟨(Nat.le_of_ble_eq_true rfl), (Nat.le_of_ble_eq_true rfl)⟩) hP hD hS hA ?_
    clear hP hD hS
    intro H locs hP hD hS
    clear h_6
    refine lv_imul hx hb dX3_voltageWith_16 ?_
    refine lv_sipush (v := 1000) hx hb dX3_voltageWith_17 (by decide) ?_
    refine lv_idiv hx hb dX3_voltageWith_20 (by decide) ?_
    obtain ⟨r_10, ξ_11, h_9, hf⟩ := b2_some hf
    obtain ⟨ξ_12, e_ξ_12⟩ : ∃ x, x = xJ (xJ ξ_8 30 ξ_11.1) 31 ξ_11.2 := ⟨_, rfl⟩
    refine run_i0 (wr := [(b 0, .inr (1, [.ref (b 1), .int (ξ_8.1 1), .int (ξ_8.1 2), .ref (b 2), .ref (b 3), .ref (b 4), va_rf fl, .ref (b 7), .ref (b 13), .ref (b 16), .int (ξ_8.1 10)])), (b 1, .inl (d 2, 500, .inl (ξ_8.2.2.1 1))), (b 2, .inl (d 5, 2, .inr (.inr (.inr (.inr (fun j => some (z.2.2 j))))))), (b 3, .inl (d 6, 5, .inr (.inr (.inr (.inr (fun j => some (z.2.2 (2 + j)))))))), (b 4, .inr (4, [.int (ξ_8.1 20), .long (ξ_8.2.1 21), .long (ξ_8.2.1 22), .long (ξ_8.2.1 23), .ref (b 5), .ref (b 6), .ref (b 0)])), (b 6, .inr (2, [.long (ξ_8.2.1 32), .long (ξ_8.2.1 33)])), (b 7, .inr (6, [.int (ξ_8.1 40), .int (ξ_8.1 41), .int (ξ_8.1 42), .int (ξ_8.1 43), .int (ξ_8.1 44), .int (ξ_8.1 45), .ref (b 8), .ref (b 9), .ref (b 10), .int (ξ_8.1 49), .ref (b 11), .ref (b 12), .int (ξ_8.1 52)])), (b 8, .inl (d 0, 16, .inl (ξ_8.2.2.1 46))), (b 9, .inl (d 1, 16, .inr (.inl (ξ_8.2.2.2.1 47)))), (b 10, .inl (d 1, 16, .inr (.inl (ξ_8.2.2.2.1 48)))), (b 11, .inl (d 0, 8, .inl (ξ_8.2.2.1 50))), (b 12, .inl (d 0, 8, .inl (ξ_8.2.2.1 51))), (b 13, .inr (8, [.int (ξ_8.1 60), .int (ξ_8.1 61), .int (ξ_8.1 62), .int (ξ_8.1 63), .ref (b 14), .ref (b 15), .int (ξ_8.1 66), .ref (b 17)])), (b 14, .inl (d 0, 100, .inl (ξ_8.2.2.1 64))), (b 15, .inl (d 3, 100, .inl (ξ_8.2.2.1 65)))]) (w' := XP d z b fl ξ_12) (va_runV (As := [.int ((p0 * r_7) / (1000 : Int32))]) (rest := []) S (tX1_voltageWith l D d z (b 5) K ((p0 * r_7) / (1000 : Int32)) (ξ_8.2.1 30, ξ_8.2.1 31) r_10 ξ_11 h_9 _) (cwV 1 hts (lw_V q1174 q1175 q1176 q95 q1177) rfl rfl rfl (by decide +kernel) ⟨(Nat.le_of_ble_eq_true rfl), (Nat.le_of_ble_eq_true rfl)⟩) ⟨Pw.blind, (va_recv hK.1 hP (ci := 2) (q0 := 5) rfl rfl), fun U hU hW => Pw.cut (tl := []) hK (by rw [List.append_nil]; exact hP) (by rw [List.append_nil]; exact hD) hZ hS hA [5] rfl rfl hU hW⟩ rfl rfl hl.1 rfl (lv_room (Nat.le_of_ble_eq_true rfl)) dX3_voltageWith_21 ⟨(Nat.le_of_ble_eq_true rfl), (Nat.le_of_ble_eq_true rfl)⟩) hP hD hS hA [5] [0, 1, 2, 3, 4, 6, 7, 8, 9, 10, 11, 12, 13, 14, 15] [0, 1, 2, 3, 4, 15, 5, 6, 7, 8, 9, 10, 11, 12, 13, 14] rfl rfl rfl rfl (by decide) rfl (by subst e_ξ_12; rfl) ?_
    clear hP hD hS
    intro H locs hP hD hS
    clear h_9
    replace hf := nm_some hf ξ_12 e_ξ_12
    clear e_ξ_12
    refine lv_goto (tgt := 35) hx hb dX3_voltageWith_24 (by decide) ?_
    refine W.widen (k := 0) (n := 0) (Nat.le_of_ble_eq_true rfl) (Nat.le_of_ble_eq_true rfl) ?_
    exact hret _ _ _ _ _ _ hf dX3_voltageWith_35 hP hD hS
def fX3_voltage (K : Nat) (μ : XS) : Option (Int32 × XS) :=
  b2 (fX3_voltageWith K (μ.1 43) μ) fun r_2 ξ_3 =>
  some (r_2, ξ_3)
set_option maxHeartbeats 4000000 in
set_option maxRecDepth 100000 in
theorem tX3_voltage (l : Launch) (D : va_G) (d : Nat → ClassId) (z : ZT) (b : Nat → Nat) (fl : Option Nat) (K : Nat) (μ : XS) (r : Int32) (μ' : XS) (hf : fX3_voltage K μ = some (r, μ')) : CI l yX3_voltage (ws_ yX3_voltage cX3_voltage 1 (Option.some Jvm.ClassFile.FieldType.int)) (rmc 3 0 0 71) D d z [.ref (b 4)] (XP d z b fl μ) r (XP d z b fl μ') := by
  refine CI.of2 (own := RX3) rfl (by decide) (Nat.le_of_ble_eq_true rfl) rfl ?_
  intro p e s m args below meth c A Q ls S hin hK hP hD hZ hS hA hl hret0
  have hret : ∀ (x : Int32) (μx : XS) (H : Heap) (locs : List Loc) (pc : Nat) (ls' : Array Slot), some (x, μx) = some (r, μ') → decode cX3_voltage pc = .ok (.ireturn, 1) → va_P D CL (XP d z b fl μx) H → va_D A (XP d z b fl μx) → va_S A s.heap H locs → W p l e (rmc 3 0 0 71) s m args below meth c H locs 0 0 Q (F0 m pc ls' [.int x]) := by
    intro x μx H locs pc ls' h9 hdg hP hD hS
    obtain ⟨rfl, rfl⟩ := so_2 h9
    exact hret0 H locs pc ls' hdg hP hD hS
  have hx := S.1
  have hb := S.2.1
  have hts := S.2.2.2.2
  have hl : lv_has ls 1 [(0, .ref (b 4))] := hl
  unfold fX3_voltage at hf
  refine lv_aload_n hx hb dX3_voltage_0 rfl (lv_at hl 0 rfl) ?_
  refine lv_aload_n hx hb dX3_voltage_1 rfl (lv_at hl 0 rfl) ?_
  refine g_get hx hb hts S.2.2.2.1 hK hP in_X3 4 rfl rfl 6 (by decide) q240 (fun _ h9 => h9) (v := .ref (b 0)) rfl dX3_voltage_2 ?_
  refine g_getN hx hb hts S.2.2.2.1 hK hP in_X0 0 rfl rfl 7 (by decide) q289 (fun _ h9 => h9) (v := .ref (b 7)) rfl dX3_voltage_5 ?_
  refine g_getN hx hb hts S.2.2.2.1 hK hP in_X6 7 rfl rfl 3 (by decide) q357 (fun _ h9 => h9) (v := .int (μ.1 43)) rfl dX3_voltage_8 ?_
  obtain ⟨r_2, ξ_3, h_1, hf⟩ := b2_some hf
  refine runW_i (va_runV (As := [.int (μ.1 43)]) (rest := []) S (tX3_voltageWith l D d z b fl K (μ.1 43) μ r_2 ξ_3 h_1 _) (cwV 1 hts (lw_V q1169 q1170 q1171 q98 q1172) rfl rfl rfl (by decide +kernel) ⟨(Nat.le_of_ble_eq_true rfl), (Nat.le_of_ble_eq_true rfl)⟩) ⟨Pw.blind, (va_recv hK.1 hP (ci := 4) (q0 := 4) rfl rfl), fun U hU hW => Pw.at hK hP hD hZ hS hA hU hW⟩ rfl rfl hl.1 rfl (lv_room (Nat.le_of_ble_eq_true rfl)) dX3_voltage_11 ⟨(Nat.le_of_ble_eq_true rfl), (Nat.le_of_ble_eq_true rfl)⟩) hP hD hS hA ?_
  clear hP hD hS
  intro H locs hP hD hS
  clear h_1
  refine W.widen (k := 0) (n := 0) (Nat.le_of_ble_eq_true rfl) (Nat.le_of_ble_eq_true rfl) ?_
  exact hret _ _ _ _ _ _ hf dX3_voltage_14 hP hD hS
def fX3_isOverloaded (K : Nat) (μ : XS) : Option (Bool × XS) :=
  b2 (fX3_voltage K μ) fun r_2 ξ_3 =>
  if r_2 ≤ (ξ_3.1 44) then
    some (false, ξ_3)
  else
    some (true, ξ_3)
set_option maxHeartbeats 4000000 in
set_option maxRecDepth 100000 in
theorem tX3_isOverloaded (l : Launch) (D : va_G) (d : Nat → ClassId) (z : ZT) (b : Nat → Nat) (fl : Option Nat) (K : Nat) (μ : XS) (r : Bool) (μ' : XS) (hf : fX3_isOverloaded K μ = some (r, μ')) : CI l yX3_isOverloaded (ws_ yX3_isOverloaded cX3_isOverloaded 1 (Option.some Jvm.ClassFile.FieldType.boolean)) (rmc 4 0 0 91) D d z [.ref (b 4)] (XP d z b fl μ) (bi r) (XP d z b fl μ') := by
  refine CI.of2 (own := RX3) rfl (by decide) (Nat.le_of_ble_eq_true rfl) (bi_nar r) ?_
  intro p e s m args below meth c A Q ls S hin hK hP hD hZ hS hA hl hret0
  have hret : ∀ (x : Bool) (μx : XS) (H : Heap) (locs : List Loc) (pc : Nat) (ls' : Array Slot), some (x, μx) = some (r, μ') → decode cX3_isOverloaded pc = .ok (.ireturn, 1) → va_P D CL (XP d z b fl μx) H → va_D A (XP d z b fl μx) → va_S A s.heap H locs → W p l e (rmc 4 0 0 91) s m args below meth c H locs 0 0 Q (F0 m pc ls' [.int (bi x)]) := by
    intro x μx H locs pc ls' h9 hdg hP hD hS
    obtain ⟨rfl, rfl⟩ := so_2 h9
    exact hret0 H locs pc ls' hdg hP hD hS
  have hx := S.1
  have hb := S.2.1
  have hts := S.2.2.2.2
  have hl : lv_has ls 1 [(0, .ref (b 4))] := hl
  unfold fX3_isOverloaded at hf
  refine lv_aload_n hx hb dX3_isOverloaded_0 rfl (lv_at hl 0 rfl) ?_
  obtain ⟨r_2, ξ_3, h_1, hf⟩ := b2_some hf
  refine runW_i (va_runV (As := []) (rest := []) S (tX3_voltage l D d z b fl K μ r_2 ξ_3 h_1 _) (cwV 0 hts (lw_V q1213 q1166 q1167 q98 q1168) rfl rfl rfl (by decide +kernel) ⟨(Nat.le_of_ble_eq_true rfl), (Nat.le_of_ble_eq_true rfl)⟩) ⟨Pw.blind, (va_recv hK.1 hP (ci := 4) (q0 := 4) rfl rfl), fun U hU hW => Pw.at hK hP hD hZ hS hA hU hW⟩ rfl rfl hl.1 rfl (lv_room (Nat.le_of_ble_eq_true rfl)) dX3_isOverloaded_1 ⟨(Nat.le_of_ble_eq_true rfl), (Nat.le_of_ble_eq_true rfl)⟩) hP hD hS hA ?_
  clear hP hD hS
  intro H locs hP hD hS
  clear h_1
  refine lv_aload_n hx hb dX3_isOverloaded_4 rfl (lv_at hl 0 rfl) ?_
  refine g_get hx hb hts S.2.2.2.1 hK hP in_X3 4 rfl rfl 6 (by decide) q240 (fun _ h9 => h9) (v := .ref (b 0)) rfl dX3_isOverloaded_5 ?_
  refine g_getN hx hb hts S.2.2.2.1 hK hP in_X0 0 rfl rfl 7 (by decide) q289 (fun _ h9 => h9) (v := .ref (b 7)) rfl dX3_isOverloaded_8 ?_
  refine g_getN hx hb hts S.2.2.2.1 hK hP in_X6 7 rfl rfl 4 (by decide) q359 (fun _ h9 => h9) (v := .int (ξ_3.1 44)) rfl dX3_isOverloaded_11 ?_
  refine lv_icmp_le (tgt := 21) hx hb dX3_isOverloaded_14 (by decide) (fun c_4 => ?_) (fun c_4 => ?_)
  · replace hf := it_t hf c_4
    clear c_4
    refine lv_iconst (v := 0) hx hb dX3_isOverloaded_21 (by decide) ?_
    refine W.widen (k := 0) (n := 0) (Nat.le_of_ble_eq_true rfl) (Nat.le_of_ble_eq_true rfl) ?_
    exact hret _ _ _ _ _ _ hf dX3_isOverloaded_22 hP hD hS
  · replace hf := it_f hf c_4
    clear c_4
    refine lv_iconst (v := 1) hx hb dX3_isOverloaded_17 (by decide) ?_
    refine lv_goto (tgt := 22) hx hb dX3_isOverloaded_18 (by decide) ?_
    refine W.widen (k := 0) (n := 0) (Nat.le_of_ble_eq_true rfl) (Nat.le_of_ble_eq_true rfl) ?_
    exact hret _ _ _ _ _ _ hf dX3_isOverloaded_22 hP hD hS
def fX0_isReady (K : Nat) (μ : XS) : Option (Bool × XS) :=
  some (true, μ)
set_option maxHeartbeats 4000000 in
set_option maxRecDepth 100000 in
theorem tX0_isReady (l : Launch) (D : va_G) (d : Nat → ClassId) (z : ZT) (b : Nat → Nat) (fl : Option Nat) (K : Nat) (μ : XS) (r : Bool) (μ' : XS) (hf : fX0_isReady K μ = some (r, μ')) : CI l yX0_isReady (ws_ yX0_isReady cX0_isReady 1 (Option.some Jvm.ClassFile.FieldType.boolean)) (rmc 0 0 0 0) D d z [.ref (b 0)] (XP d z b fl μ) (bi r) (XP d z b fl μ') := by
  refine CI.of2 (own := RX0) rfl (by decide) (Nat.le_of_ble_eq_true rfl) (bi_nar r) ?_
  intro p e s m args below meth c A Q ls S hin hK hP hD hZ hS hA hl hret0
  have hret : ∀ (x : Bool) (μx : XS) (H : Heap) (locs : List Loc) (pc : Nat) (ls' : Array Slot), some (x, μx) = some (r, μ') → decode cX0_isReady pc = .ok (.ireturn, 1) → va_P D CL (XP d z b fl μx) H → va_D A (XP d z b fl μx) → va_S A s.heap H locs → W p l e (rmc 0 0 0 0) s m args below meth c H locs 0 0 Q (F0 m pc ls' [.int (bi x)]) := by
    intro x μx H locs pc ls' h9 hdg hP hD hS
    obtain ⟨rfl, rfl⟩ := so_2 h9
    exact hret0 H locs pc ls' hdg hP hD hS
  have hx := S.1
  have hb := S.2.1
  have hts := S.2.2.2.2
  have hl : lv_has ls 1 [(0, .ref (b 0))] := hl
  unfold fX0_isReady at hf
  refine lv_aload_n hx hb dX0_isReady_0 rfl (lv_at hl 0 rfl) ?_
  refine g_get hx hb hts S.2.2.2.1 hK hP in_X0 0 rfl rfl 7 (by decide) q291 (fun _ h9 => h9) (v := .ref (b 7)) rfl dX0_isReady_1 ?_
  refine lv_ifnull hx hb dX0_isReady_4 ?_
  refine lv_iconst (v := 1) hx hb dX0_isReady_7 (by decide) ?_
  refine lv_goto (tgt := 12) hx hb dX0_isReady_8 (by decide) ?_
  refine W.widen (k := 0) (n := 0) (Nat.le_of_ble_eq_true rfl) (Nat.le_of_ble_eq_true rfl) ?_
  exact hret _ _ _ _ _ _ hf dX0_isReady_12 hP hD hS
def fX0_isReadyu (K : Nat) (μ : XS) : Option (Bool × XS) :=
  some (false, μ)
set_option maxHeartbeats 4000000 in
set_option maxRecDepth 100000 in
theorem tX0_isReadyu (l : Launch) (D : va_G) (d : Nat → ClassId) (z : ZT) (b : Nat → Nat) (fl : Option Nat) (K : Nat) (μ : XS) (r : Bool) (μ' : XS) (hf : fX0_isReadyu K μ = some (r, μ')) : CI l yX0_isReady (ws_ yX0_isReady cX0_isReady 1 (Option.some Jvm.ClassFile.FieldType.boolean)) (rmc 0 0 0 0) D d z [.ref (b 0)] (XU d z b fl μ) (bi r) (XU d z b fl μ') := by
  refine CI.of2 (own := RX0) rfl (by decide) (Nat.le_of_ble_eq_true rfl) (bi_nar r) ?_
  intro p e s m args below meth c A Q ls S hin hK hP hD hZ hS hA hl hret0
  have hret : ∀ (x : Bool) (μx : XS) (H : Heap) (locs : List Loc) (pc : Nat) (ls' : Array Slot), some (x, μx) = some (r, μ') → decode cX0_isReady pc = .ok (.ireturn, 1) → va_P D CL (XU d z b fl μx) H → va_D A (XU d z b fl μx) → va_S A s.heap H locs → W p l e (rmc 0 0 0 0) s m args below meth c H locs 0 0 Q (F0 m pc ls' [.int (bi x)]) := by
    intro x μx H locs pc ls' h9 hdg hP hD hS
    obtain ⟨rfl, rfl⟩ := so_2 h9
    exact hret0 H locs pc ls' hdg hP hD hS
  have hx := S.1
  have hb := S.2.1
  have hts := S.2.2.2.2
  have hl : lv_has ls 1 [(0, .ref (b 0))] := hl
  unfold fX0_isReadyu at hf
  refine lv_aload_n hx hb dX0_isReady_0 rfl (lv_at hl 0 rfl) ?_
  refine g_get hx hb hts S.2.2.2.1 hK hP in_X0 0 rfl rfl 7 (by decide) q291 (fun _ h9 => h9) (v := .null) rfl dX0_isReady_1 ?_
  refine lv_ifnullN (tgt := 11) hx hb dX0_isReady_4 (by decide) ?_
  refine lv_iconst (v := 0) hx hb dX0_isReady_11 (by decide) ?_
  refine W.widen (k := 0) (n := 0) (Nat.le_of_ble_eq_true rfl) (Nat.le_of_ble_eq_true rfl) ?_
  exact hret _ _ _ _ _ _ hf dX0_isReady_12 hP hD hS
def fX0_here (K : Nat) (μ : XS) : Option XS :=
  b1 (fX3_lay K (μ.1 61) (μ.1 60) μ) fun ξ_2 =>
  some ξ_2
set_option maxHeartbeats 4000000 in
set_option maxRecDepth 100000 in
theorem tX0_here (l : Launch) (D : va_G) (d : Nat → ClassId) (z : ZT) (b : Nat → Nat) (fl : Option Nat) (K : Nat) (μ : XS) (μ' : XS) (hf : fX0_here K μ = some μ') : CRS l yX0_here (ws_ yX0_here cX0_here 1 (Option.some (Jvm.ClassFile.FieldType.object "AntennaTuner$Circuit"))) (rmc 6 0 0 132) D d z [.ref (b 0)] (XP d z b fl μ) (fun _ : Unit => b 4) (fun _ => XP d z b fl μ') (fun _ => True) := by
  refine CRS.of (own := RX0) rfl (by decide) (Nat.le_of_ble_eq_true rfl) (Or.inl ⟨_, rfl⟩) ?_
  intro p e s m args below meth c A Q ls S hin hK hP hD hZ hS hA hl hret0
  have hret : ∀ (μx : XS) (H : Heap) (locs : List Loc) (pc : Nat) (ls' : Array Slot), some μx = some μ' → decode cX0_here pc = .ok (.areturn, 1) → va_P D CL (XP d z b fl μx) H → va_D A (XP d z b fl μx) → va_S A s.heap H locs → W p l e (rmc 6 0 0 132) s m args below meth c H locs 0 0 Q (F0 m pc ls' [.ref (b 4)]) := by
    intro μx H locs pc ls' h9 hdg hP hD hS
    obtain rfl := so_1 h9
    exact hret0 () trivial H locs pc ls' hdg hP hD hS
  have hx := S.1
  have hb := S.2.1
  have hts := S.2.2.2.2
  have hl : lv_has ls 1 [(0, .ref (b 0))] := hl
  unfold fX0_here at hf
  refine lv_aload_n hx hb dX0_here_0 rfl (lv_at hl 0 rfl) ?_
  refine g_get hx hb hts S.2.2.2.1 hK hP in_X0 0 rfl rfl 5 (by decide) q286 (fun _ h9 => h9) (v := .ref (b 4)) rfl dX0_here_1 ?_
  refine lv_aload_n hx hb dX0_here_4 rfl (lv_at hl 0 rfl) ?_
  refine g_get hx hb hts S.2.2.2.1 hK hP in_X0 0 rfl rfl 8 (by decide) q293 (fun _ h9 => h9) (v := .ref (b 13)) rfl dX0_here_5 ?_
  refine g_getN hx hb hts S.2.2.2.1 hK hP in_X8 13 rfl rfl 1 (by decide) q812 (fun _ h9 => h9) (v := .int (μ.1 61)) rfl dX0_here_8 ?_
  refine lv_aload_n hx hb dX0_here_11 rfl (lv_at hl 0 rfl) ?_
  refine g_get hx hb hts S.2.2.2.1 hK hP in_X0 0 rfl rfl 8 (by decide) q293 (fun _ h9 => h9) (v := .ref (b 13)) rfl dX0_here_12 ?_
  refine g_getN hx hb hts S.2.2.2.1 hK hP in_X8 13 rfl rfl 0 (by decide) q810 (fun _ h9 => h9) (v := .int (μ.1 60)) rfl dX0_here_15 ?_
  obtain ⟨ξ_2, h_1, hf⟩ := b1_some hf
  refine runW_rS (va_runV (As := [.int (μ.1 61), .int (μ.1 60)]) (rest := []) S (tX3_lay l D d z b fl K (μ.1 61) (μ.1 60) μ ξ_2 h_1 _) (cwV 2 hts (lw_V q1097 q1098 q1099 q98 q1100) rfl rfl rfl (by decide +kernel) ⟨(Nat.le_of_ble_eq_true rfl), (Nat.le_of_ble_eq_true rfl)⟩) ⟨Pw.blind, (va_recv hK.1 hP (ci := 4) (q0 := 4) rfl rfl), fun U hU hW => Pw.at hK hP hD hZ hS hA hU hW⟩ rfl rfl hl.1 rfl (lv_room (Nat.le_of_ble_eq_true rfl)) dX0_here_18 ⟨(Nat.le_of_ble_eq_true rfl), (Nat.le_of_ble_eq_true rfl)⟩) hP hD hS hA ?_
  clear hP hD hS
  intro _ _ H locs hP hD hS
  clear h_1
  refine W.widen (k := 0) (n := 0) (Nat.le_of_ble_eq_true rfl) (Nat.le_of_ble_eq_true rfl) ?_
  exact hret _ _ _ _ _ hf dX0_here_21 hP hD hS
def fX0_swrOf (K : Nat) (p0 : Int32) (μ : XS) : Option (Int32 × XS) :=
  b1 (fX3_lay K (μ.1 61) p0 μ) fun ξ_2 =>
  b2 (fX3_swr K ξ_2) fun r_4 ξ_5 =>
  some (r_4, ξ_5)
set_option maxHeartbeats 4000000 in
set_option maxRecDepth 100000 in
theorem tX0_swrOf (l : Launch) (D : va_G) (d : Nat → ClassId) (z : ZT) (b : Nat → Nat) (fl : Option Nat) (K : Nat) (p0 : Int32) (μ : XS) (r : Int32) (μ' : XS) (hf : fX0_swrOf K p0 μ = some (r, μ')) : CI l yX0_swrOf (ws_ yX0_swrOf cX0_swrOf 2 (Option.some Jvm.ClassFile.FieldType.int)) (rmc 6 0 0 132) D d z [.ref (b 0), .int p0] (XP d z b fl μ) r (XP d z b fl μ') := by
  refine CI.of2 (own := RX0) rfl (by decide) (Nat.le_of_ble_eq_true rfl) rfl ?_
  intro p e s m args below meth c A Q ls S hin hK hP hD hZ hS hA hl hret0
  have hret : ∀ (x : Int32) (μx : XS) (H : Heap) (locs : List Loc) (pc : Nat) (ls' : Array Slot), some (x, μx) = some (r, μ') → decode cX0_swrOf pc = .ok (.ireturn, 1) → va_P D CL (XP d z b fl μx) H → va_D A (XP d z b fl μx) → va_S A s.heap H locs → W p l e (rmc 6 0 0 132) s m args below meth c H locs 0 0 Q (F0 m pc ls' [.int x]) := by
    intro x μx H locs pc ls' h9 hdg hP hD hS
    obtain ⟨rfl, rfl⟩ := so_2 h9
    exact hret0 H locs pc ls' hdg hP hD hS
  have hx := S.1
  have hb := S.2.1
  have hts := S.2.2.2.2
  have hl : lv_has ls 2 [(0, .ref (b 0)), (1, .int p0)] := hl
  unfold fX0_swrOf at hf
  refine lv_aload_n hx hb dX0_swrOf_0 rfl (lv_at hl 0 rfl) ?_
  refine g_get hx hb hts S.2.2.2.1 hK hP in_X0 0 rfl rfl 5 (by decide) q286 (fun _ h9 => h9) (v := .ref (b 4)) rfl dX0_swrOf_1 ?_
  refine lv_aload_n hx hb dX0_swrOf_4 rfl (lv_at hl 0 rfl) ?_
  refine g_get hx hb hts S.2.2.2.1 hK hP in_X0 0 rfl rfl 8 (by decide) q293 (fun _ h9 => h9) (v := .ref (b 13)) rfl dX0_swrOf_5 ?_
  refine g_getN hx hb hts S.2.2.2.1 hK hP in_X8 13 rfl rfl 1 (by decide) q812 (fun _ h9 => h9) (v := .int (μ.1 61)) rfl dX0_swrOf_8 ?_
  refine lv_iload_n hx hb dX0_swrOf_11 rfl (lv_at hl 1 rfl) ?_
  obtain ⟨ξ_2, h_1, hf⟩ := b1_some hf
  refine runW_rS (va_runV (As := [.int (μ.1 61), .int p0]) (rest := []) S (tX3_lay l D d z b fl K (μ.1 61) p0 μ ξ_2 h_1 _) (cwV 2 hts (lw_V q1097 q1098 q1099 q98 q1100) rfl rfl rfl (by decide +kernel) ⟨(Nat.le_of_ble_eq_true rfl), (Nat.le_of_ble_eq_true rfl)⟩) ⟨Pw.blind, (va_recv hK.1 hP (ci := 4) (q0 := 4) rfl rfl), fun U hU hW => Pw.at hK hP hD hZ hS hA hU hW⟩ rfl rfl hl.1 rfl (lv_room (Nat.le_of_ble_eq_true rfl)) dX0_swrOf_12 ⟨(Nat.le_of_ble_eq_true rfl), (Nat.le_of_ble_eq_true rfl)⟩) hP hD hS hA ?_
  clear hP hD hS
  intro _ _ H locs hP hD hS
  clear h_1
  obtain ⟨r_4, ξ_5, h_3, hf⟩ := b2_some hf
  refine runW_i (va_runV (As := []) (rest := []) S (tX3_swr l D d z b fl K ξ_2 r_4 ξ_5 h_3 _) (cwV 0 hts (lw_V q1119 q1120 q1121 q98 q1122) rfl rfl rfl (by decide +kernel) ⟨(Nat.le_of_ble_eq_true rfl), (Nat.le_of_ble_eq_true rfl)⟩) ⟨Pw.blind, (va_recv hK.1 hP (ci := 4) (q0 := 4) rfl rfl), fun U hU hW => Pw.at hK hP hD hZ hS hA hU hW⟩ rfl rfl hl.1 rfl (lv_room (Nat.le_of_ble_eq_true rfl)) dX0_swrOf_15 ⟨(Nat.le_of_ble_eq_true rfl), (Nat.le_of_ble_eq_true rfl)⟩) hP hD hS hA ?_
  clear hP hD hS
  intro H locs hP hD hS
  clear h_3
  refine W.widen (k := 0) (n := 0) (Nat.le_of_ble_eq_true rfl) (Nat.le_of_ble_eq_true rfl) ?_
  exact hret _ _ _ _ _ _ hf dX0_swrOf_18 hP hD hS
def fX0_swrBy (K : Nat) (p0 : Int32) (μ : XS) : Option (Int32 × XS) :=
  b1 (fX3_lay K p0 (μ.1 60) μ) fun ξ_2 =>
  b2 (fX3_swr K ξ_2) fun r_4 ξ_5 =>
  some (r_4, ξ_5)
set_option maxHeartbeats 4000000 in
set_option maxRecDepth 100000 in
theorem tX0_swrBy (l : Launch) (D : va_G) (d : Nat → ClassId) (z : ZT) (b : Nat → Nat) (fl : Option Nat) (K : Nat) (p0 : Int32) (μ : XS) (r : Int32) (μ' : XS) (hf : fX0_swrBy K p0 μ = some (r, μ')) : CI l yX0_swrBy (ws_ yX0_swrBy cX0_swrBy 2 (Option.some Jvm.ClassFile.FieldType.int)) (rmc 6 0 0 132) D d z [.ref (b 0), .int p0] (XP d z b fl μ) r (XP d z b fl μ') := by
  refine CI.of2 (own := RX0) rfl (by decide) (Nat.le_of_ble_eq_true rfl) rfl ?_
  intro p e s m args below meth c A Q ls S hin hK hP hD hZ hS hA hl hret0
  have hret : ∀ (x : Int32) (μx : XS) (H : Heap) (locs : List Loc) (pc : Nat) (ls' : Array Slot), some (x, μx) = some (r, μ') → decode cX0_swrBy pc = .ok (.ireturn, 1) → va_P D CL (XP d z b fl μx) H → va_D A (XP d z b fl μx) → va_S A s.heap H locs → W p l e (rmc 6 0 0 132) s m args below meth c H locs 0 0 Q (F0 m pc ls' [.int x]) := by
    intro x μx H locs pc ls' h9 hdg hP hD hS
    obtain ⟨rfl, rfl⟩ := so_2 h9
    exact hret0 H locs pc ls' hdg hP hD hS
  have hx := S.1
  have hb := S.2.1
  have hts := S.2.2.2.2
  have hl : lv_has ls 2 [(0, .ref (b 0)), (1, .int p0)] := hl
  unfold fX0_swrBy at hf
  refine lv_aload_n hx hb dX0_swrBy_0 rfl (lv_at hl 0 rfl) ?_
  refine g_get hx hb hts S.2.2.2.1 hK hP in_X0 0 rfl rfl 5 (by decide) q286 (fun _ h9 => h9) (v := .ref (b 4)) rfl dX0_swrBy_1 ?_
  refine lv_iload_n hx hb dX0_swrBy_4 rfl (lv_at hl 1 rfl) ?_
  refine lv_aload_n hx hb dX0_swrBy_5 rfl (lv_at hl 0 rfl) ?_
  refine g_get hx hb hts S.2.2.2.1 hK hP in_X0 0 rfl rfl 8 (by decide) q293 (fun _ h9 => h9) (v := .ref (b 13)) rfl dX0_swrBy_6 ?_
  refine g_getN hx hb hts S.2.2.2.1 hK hP in_X8 13 rfl rfl 0 (by decide) q810 (fun _ h9 => h9) (v := .int (μ.1 60)) rfl dX0_swrBy_9 ?_
  obtain ⟨ξ_2, h_1, hf⟩ := b1_some hf
  refine runW_rS (va_runV (As := [.int p0, .int (μ.1 60)]) (rest := []) S (tX3_lay l D d z b fl K p0 (μ.1 60) μ ξ_2 h_1 _) (cwV 2 hts (lw_V q1097 q1098 q1099 q98 q1100) rfl rfl rfl (by decide +kernel) ⟨(Nat.le_of_ble_eq_true rfl), (Nat.le_of_ble_eq_true rfl)⟩) ⟨Pw.blind, (va_recv hK.1 hP (ci := 4) (q0 := 4) rfl rfl), fun U hU hW => Pw.at hK hP hD hZ hS hA hU hW⟩ rfl rfl hl.1 rfl (lv_room (Nat.le_of_ble_eq_true rfl)) dX0_swrBy_12 ⟨(Nat.le_of_ble_eq_true rfl), (Nat.le_of_ble_eq_true rfl)⟩) hP hD hS hA ?_
  clear hP hD hS
  intro _ _ H locs hP hD hS
  clear h_1
  obtain ⟨r_4, ξ_5, h_3, hf⟩ := b2_some hf
  refine runW_i (va_runV (As := []) (rest := []) S (tX3_swr l D d z b fl K ξ_2 r_4 ξ_5 h_3 _) (cwV 0 hts (lw_V q1119 q1120 q1121 q98 q1122) rfl rfl rfl (by decide +kernel) ⟨(Nat.le_of_ble_eq_true rfl), (Nat.le_of_ble_eq_true rfl)⟩) ⟨Pw.blind, (va_recv hK.1 hP (ci := 4) (q0 := 4) rfl rfl), fun U hU hW => Pw.at hK hP hD hZ hS hA hU hW⟩ rfl rfl hl.1 rfl (lv_room (Nat.le_of_ble_eq_true rfl)) dX0_swrBy_15 ⟨(Nat.le_of_ble_eq_true rfl), (Nat.le_of_ble_eq_true rfl)⟩) hP hD hS hA ?_
  clear hP hD hS
  intro H locs hP hD hS
  clear h_3
  refine W.widen (k := 0) (n := 0) (Nat.le_of_ble_eq_true rfl) (Nat.le_of_ble_eq_true rfl) ?_
  exact hret _ _ _ _ _ _ hf dX0_swrBy_18 hP hD hS
def fX0_areSettings (K : Nat) (p0 : Int32) (p1 : Int32) (p2 : Int32) (μ : XS) : Option (Bool × XS) :=
  b2 (fX0_isReady K μ) fun r_2 ξ_3 =>
  if r_2 = true then
    b1 (fX0_isIn K p0 (0 : Int32) (1 : Int32)) fun r_5 =>
    if r_5 = true then
      b1 (fX0_isSetting K p1) fun r_8 =>
      if r_8 = true then
        b1 (fX0_isSetting K p2) fun r_11 =>
        if r_11 = true then
          some (true, ξ_3)
        else
          some (false, ξ_3)
      else
        some (false, ξ_3)
    else
      some (false, ξ_3)
  else
    some (false, ξ_3)
set_option maxHeartbeats 4000000 in
set_option maxRecDepth 100000 in
theorem tX0_areSettings (l : Launch) (D : va_G) (d : Nat → ClassId) (z : ZT) (b : Nat → Nat) (fl : Option Nat) (K : Nat) (p0 : Int32) (p1 : Int32) (p2 : Int32) (μ : XS) (r : Bool) (μ' : XS) (hf : fX0_areSettings K p0 p1 p2 μ = some (r, μ')) : CI l yX0_areSettings (ws_ yX0_areSettings cX0_areSettings 4 (Option.some Jvm.ClassFile.FieldType.boolean)) (rmc 2 0 0 42) D d z [.ref (b 0), .int p0, .int p1, .int p2] (XP d z b fl μ) (bi r) (XP d z b fl μ') := by
  refine CI.of2 (own := RX0) rfl (by decide) (Nat.le_of_ble_eq_true rfl) (bi_nar r) ?_
  intro p e s m args below meth c A Q ls S hin hK hP hD hZ hS hA hl hret0
  have hret : ∀ (x : Bool) (μx : XS) (H : Heap) (locs : List Loc) (pc : Nat) (ls' : Array Slot), some (x, μx) = some (r, μ') → decode cX0_areSettings pc = .ok (.ireturn, 1) → va_P D CL (XP d z b fl μx) H → va_D A (XP d z b fl μx) → va_S A s.heap H locs → W p l e (rmc 2 0 0 42) s m args below meth c H locs 0 0 Q (F0 m pc ls' [.int (bi x)]) := by
    intro x μx H locs pc ls' h9 hdg hP hD hS
    obtain ⟨rfl, rfl⟩ := so_2 h9
    exact hret0 H locs pc ls' hdg hP hD hS
  have hx := S.1
  have hb := S.2.1
  have hts := S.2.2.2.2
  have hl : lv_has ls 4 [(0, .ref (b 0)), (1, .int p0), (2, .int p1), (3, .int p2)] := hl
  unfold fX0_areSettings at hf
  refine lv_aload_n hx hb dX0_areSettings_0 rfl (lv_at hl 0 rfl) ?_
  obtain ⟨r_2, ξ_3, h_1, hf⟩ := b2_some hf
  refine runW_i (va_runV (As := []) (rest := []) S (tX0_isReady l D d z b fl K μ r_2 ξ_3 h_1 _) (cwV 0 hts (lw_V q857 q859 qs18 q94 q860) rfl rfl rfl (by decide +kernel) ⟨(Nat.le_of_ble_eq_true rfl), (Nat.le_of_ble_eq_true rfl)⟩) ⟨Pw.blind, (va_recv hK.1 hP (ci := 1) (q0 := 0) rfl rfl), fun U hU hW => Pw.at hK hP hD hZ hS hA hU hW⟩ rfl rfl hl.1 rfl (lv_room (Nat.le_of_ble_eq_true rfl)) dX0_areSettings_1 ⟨(Nat.le_of_ble_eq_true rfl), (Nat.le_of_ble_eq_true rfl)⟩) hP hD hS hA ?_
  clear hP hD hS
  intro H locs hP hD hS
  clear h_1
  refine lv_if_eq (tgt := 34) hx hb dX0_areSettings_4 (by decide) (fun c_4 => ?_) (fun c_4 => ?_)
  · replace hf := it_f hf (bi_e0 c_4)
    clear c_4
    refine lv_iconst (v := 0) hx hb dX0_areSettings_34 (by decide) ?_
    refine W.widen (k := 0) (n := 0) (Nat.le_of_ble_eq_true rfl) (Nat.le_of_ble_eq_true rfl) ?_
    exact hret _ _ _ _ _ _ hf dX0_areSettings_35 hP hD hS
  · replace hf := it_t hf (bi_n0 c_4)
    clear c_4
    refine lv_iload_n hx hb dX0_areSettings_7 rfl (lv_at hl 1 rfl) ?_
    refine lv_iconst (v := 0) hx hb dX0_areSettings_8 (by decide) ?_
    refine lv_iconst (v := 1) hx hb dX0_areSettings_9 (by decide) ?_
    obtain ⟨r_5, h_6, hf⟩ := b1_some hf
    refine si_call S (tX0_isIn l K p0 (0 : Int32) (1 : Int32) _ h_6) (va_cwS 3 hts (lw_S q331 q332 q94 q333) rfl rfl rfl (by decide +kernel) ⟨(Nat.le_of_ble_eq_true rfl), (Nat.le_of_ble_eq_true rfl)⟩) rfl hl.1 rfl (Nat.le_of_ble_eq_true rfl) ⟨(Nat.le_of_ble_eq_true rfl), (Nat.le_of_ble_eq_true rfl)⟩ dX0_areSettings_10 ?_
    clear h_6
    refine lv_if_eq (tgt := 34) hx hb dX0_areSettings_13 (by decide) (fun c_7 => ?_) (fun c_7 => ?_)
    · replace hf := it_f hf (bi_e0 c_7)
      clear c_7
      refine lv_iconst (v := 0) hx hb dX0_areSettings_34 (by decide) ?_
      refine W.widen (k := 0) (n := 0) (Nat.le_of_ble_eq_true rfl) (Nat.le_of_ble_eq_true rfl) ?_
      exact hret _ _ _ _ _ _ hf dX0_areSettings_35 hP hD hS
    · replace hf := it_t hf (bi_n0 c_7)
      clear c_7
      refine lv_iload_n hx hb dX0_areSettings_16 rfl (lv_at hl 2 rfl) ?_
      obtain ⟨r_8, h_9, hf⟩ := b1_some hf
      refine si_call S (tX0_isSetting l K p1 _ h_9) (va_cwS 1 hts (lw_S q1060 q1061 q94 q1062) rfl rfl rfl (by decide +kernel) ⟨(Nat.le_of_ble_eq_true rfl), (Nat.le_of_ble_eq_true rfl)⟩) rfl hl.1 rfl (Nat.le_of_ble_eq_true rfl) ⟨(Nat.le_of_ble_eq_true rfl), (Nat.le_of_ble_eq_true rfl)⟩ dX0_areSettings_17 ?_
      clear h_9
      refine lv_if_eq (tgt := 34) hx hb dX0_areSettings_20 (by decide) (fun c_10 => ?_) (fun c_10 => ?_)
      · replace hf := it_f hf (bi_e0 c_10)
        clear c_10
        refine lv_iconst (v := 0) hx hb dX0_areSettings_34 (by decide) ?_
        refine W.widen (k := 0) (n := 0) (Nat.le_of_ble_eq_true rfl) (Nat.le_of_ble_eq_true rfl) ?_
        exact hret _ _ _ _ _ _ hf dX0_areSettings_35 hP hD hS
      · replace hf := it_t hf (bi_n0 c_10)
        clear c_10
        refine lv_iload_n hx hb dX0_areSettings_23 rfl (lv_at hl 3 rfl) ?_
        obtain ⟨r_11, h_12, hf⟩ := b1_some hf
        refine si_call S (tX0_isSetting l K p2 _ h_12) (va_cwS 1 hts (lw_S q1060 q1061 q94 q1062) rfl rfl rfl (by decide +kernel) ⟨(Nat.le_of_ble_eq_true rfl), (Nat.le_of_ble_eq_true rfl)⟩) rfl hl.1 rfl (Nat.le_of_ble_eq_true rfl) ⟨(Nat.le_of_ble_eq_true rfl), (Nat.le_of_ble_eq_true rfl)⟩ dX0_areSettings_24 ?_
        clear h_12
        refine lv_if_eq (tgt := 34) hx hb dX0_areSettings_27 (by decide) (fun c_13 => ?_) (fun c_13 => ?_)
        · replace hf := it_f hf (bi_e0 c_13)
          clear c_13
          refine lv_iconst (v := 0) hx hb dX0_areSettings_34 (by decide) ?_
          refine W.widen (k := 0) (n := 0) (Nat.le_of_ble_eq_true rfl) (Nat.le_of_ble_eq_true rfl) ?_
          exact hret _ _ _ _ _ _ hf dX0_areSettings_35 hP hD hS
        · replace hf := it_t hf (bi_n0 c_13)
          clear c_13
          refine lv_iconst (v := 1) hx hb dX0_areSettings_30 (by decide) ?_
          refine lv_goto (tgt := 35) hx hb dX0_areSettings_31 (by decide) ?_
          refine W.widen (k := 0) (n := 0) (Nat.le_of_ble_eq_true rfl) (Nat.le_of_ble_eq_true rfl) ?_
          exact hret _ _ _ _ _ _ hf dX0_areSettings_35 hP hD hS
def fX0_isMatched (K : Nat) (p0 : Int32) (μ : XS) : Option (Bool × XS) :=
  b2 (fX0_swrOf K p0 μ) fun r_2 ξ_3 =>
  if (ξ_3.1 45) < r_2 then
    some (false, ξ_3)
  else
    some (true, ξ_3)
set_option maxHeartbeats 4000000 in
set_option maxRecDepth 100000 in
theorem tX0_isMatched (l : Launch) (D : va_G) (d : Nat → ClassId) (z : ZT) (b : Nat → Nat) (fl : Option Nat) (K : Nat) (p0 : Int32) (μ : XS) (r : Bool) (μ' : XS) (hf : fX0_isMatched K p0 μ = some (r, μ')) : CI l yX0_isMatched (ws_ yX0_isMatched cX0_isMatched 2 (Option.some Jvm.ClassFile.FieldType.boolean)) (rmc 7 0 0 153) D d z [.ref (b 0), .int p0] (XP d z b fl μ) (bi r) (XP d z b fl μ') := by
  refine CI.of2 (own := RX0) rfl (by decide) (Nat.le_of_ble_eq_true rfl) (bi_nar r) ?_
  intro p e s m args below meth c A Q ls S hin hK hP hD hZ hS hA hl hret0
  have hret : ∀ (x : Bool) (μx : XS) (H : Heap) (locs : List Loc) (pc : Nat) (ls' : Array Slot), some (x, μx) = some (r, μ') → decode cX0_isMatched pc = .ok (.ireturn, 1) → va_P D CL (XP d z b fl μx) H → va_D A (XP d z b fl μx) → va_S A s.heap H locs → W p l e (rmc 7 0 0 153) s m args below meth c H locs 0 0 Q (F0 m pc ls' [.int (bi x)]) := by
    intro x μx H locs pc ls' h9 hdg hP hD hS
    obtain ⟨rfl, rfl⟩ := so_2 h9
    exact hret0 H locs pc ls' hdg hP hD hS
  have hx := S.1
  have hb := S.2.1
  have hts := S.2.2.2.2
  have hl : lv_has ls 2 [(0, .ref (b 0)), (1, .int p0)] := hl
  unfold fX0_isMatched at hf
  refine lv_aload_n hx hb dX0_isMatched_0 rfl (lv_at hl 0 rfl) ?_
  refine lv_iload_n hx hb dX0_isMatched_1 rfl (lv_at hl 1 rfl) ?_
  obtain ⟨r_2, ξ_3, h_1, hf⟩ := b2_some hf
  refine runW_i (va_runV (As := [.int p0]) (rest := []) S (tX0_swrOf l D d z b fl K p0 μ r_2 ξ_3 h_1 _) (cwV 1 hts (lw_V q1140 q1142 qs31 q94 q1143) rfl rfl rfl (by decide +kernel) ⟨(Nat.le_of_ble_eq_true rfl), (Nat.le_of_ble_eq_true rfl)⟩) ⟨Pw.blind, (va_recv hK.1 hP (ci := 1) (q0 := 0) rfl rfl), fun U hU hW => Pw.at hK hP hD hZ hS hA hU hW⟩ rfl rfl hl.1 rfl (lv_room (Nat.le_of_ble_eq_true rfl)) dX0_isMatched_2 ⟨(Nat.le_of_ble_eq_true rfl), (Nat.le_of_ble_eq_true rfl)⟩) hP hD hS hA ?_
  clear hP hD hS
  intro H locs hP hD hS
  clear h_1
  refine lv_aload_n hx hb dX0_isMatched_5 rfl (lv_at hl 0 rfl) ?_
  refine g_get hx hb hts S.2.2.2.1 hK hP in_X0 0 rfl rfl 7 (by decide) q291 (fun _ h9 => h9) (v := .ref (b 7)) rfl dX0_isMatched_6 ?_
  refine g_getN hx hb hts S.2.2.2.1 hK hP in_X6 7 rfl rfl 5 (by decide) q364 (fun _ h9 => h9) (v := .int (ξ_3.1 45)) rfl dX0_isMatched_9 ?_
  refine lv_icmp_gt (tgt := 19) hx hb dX0_isMatched_12 (by decide) (fun c_4 => ?_) (fun c_4 => ?_)
  · replace hf := it_t hf c_4
    clear c_4
    refine lv_iconst (v := 0) hx hb dX0_isMatched_19 (by decide) ?_
    refine W.widen (k := 0) (n := 0) (Nat.le_of_ble_eq_true rfl) (Nat.le_of_ble_eq_true rfl) ?_
    exact hret _ _ _ _ _ _ hf dX0_isMatched_20 hP hD hS
  · replace hf := it_f hf c_4
    clear c_4
    refine lv_iconst (v := 1) hx hb dX0_isMatched_15 (by decide) ?_
    refine lv_goto (tgt := 20) hx hb dX0_isMatched_16 (by decide) ?_
    refine W.widen (k := 0) (n := 0) (Nat.le_of_ble_eq_true rfl) (Nat.le_of_ble_eq_true rfl) ?_
    exact hret _ _ _ _ _ _ hf dX0_isMatched_20 hP hD hS
def fX0_farthestMatched_L25 (K : Nat) : Nat → Int32 → Int32 → XS → Option (Int32 × XS)
  | 0, _, _, _ => none
  | n + 1, x25_1, x25_2, μ25 =>
    b1 (fX0_isFrequency K (x25_2 + x25_1)) fun r_6 =>
    if r_6 = true then
      b2 (fX0_isMatched K (x25_2 + x25_1) μ25) fun r_10 ξ_11 =>
      if r_10 = true then
        nm (x25_2 + x25_1) fun v_13 =>
        fX0_farthestMatched_L25 K n x25_1 v_13 ξ_11
      else
        some (x25_2, ξ_11)
    else
      some (x25_2, μ25)
def fX0_farthestMatched (K : Nat) (p0 : Int32) (μ : XS) : Option (Int32 × XS) :=
  b2 (fX0_isMatched K (μ.1 60) μ) fun r_2 ξ_3 =>
  if r_2 = true then
    nm (ξ_3.1 60) fun v_5 =>
    fX0_farthestMatched_L25 K K p0 v_5 ξ_3
  else
    some ((-2 : Int32), ξ_3)
set_option maxHeartbeats 4000000 in
set_option maxRecDepth 100000 in
theorem tX0_farthestMatched (l : Launch) (D : va_G) (d : Nat → ClassId) (z : ZT) (b : Nat → Nat) (fl : Option Nat) (K : Nat) (p0 : Int32) (μ : XS) (r : Int32) (μ' : XS) (hf : fX0_farthestMatched K p0 μ = some (r, μ')) : CI l yX0_farthestMatched (ws_ yX0_farthestMatched cX0_farthestMatched 3 (Option.some Jvm.ClassFile.FieldType.int)) (rmc 8 0 0 174) D d z [.ref (b 0), .int p0] (XP d z b fl μ) r (XP d z b fl μ') := by
  refine CI.of2 (own := RX0) rfl (by decide) (Nat.le_of_ble_eq_true rfl) rfl ?_
  intro p e s m args below meth c A Q ls S hin hK hP hD hZ hS hA hl hret0
  have hret : ∀ (x : Int32) (μx : XS) (H : Heap) (locs : List Loc) (pc : Nat) (ls' : Array Slot), some (x, μx) = some (r, μ') → decode cX0_farthestMatched pc = .ok (.ireturn, 1) → va_P D CL (XP d z b fl μx) H → va_D A (XP d z b fl μx) → va_S A s.heap H locs → W p l e (rmc 8 0 0 174) s m args below meth c H locs 0 0 Q (F0 m pc ls' [.int x]) := by
    intro x μx H locs pc ls' h9 hdg hP hD hS
    obtain ⟨rfl, rfl⟩ := so_2 h9
    exact hret0 H locs pc ls' hdg hP hD hS
  have hx := S.1
  have hb := S.2.1
  have hts := S.2.2.2.2
  have hl : lv_has ls 3 [(0, .ref (b 0)), (1, .int p0)] := hl
  have L25 : ∀ (n : Nat) (x25_1 : Int32) (x25_2 : Int32) (μ25 : XS) (H : Heap) (locs : List Loc) (ls : Array Slot), fX0_farthestMatched_L25 K n x25_1 x25_2 μ25 = some (r, μ') → va_P D CL (XP d z b fl μ25) H → va_D A (XP d z b fl μ25) → va_S A s.heap H locs → lv_has ls 3 [(0, .ref (b 0)), (1, .int x25_1), (2, .int x25_2)] → W p l e (rmc 8 0 0 174) s m args below meth c H locs 0 0 Q (F0 m 25 ls []) := by
    intro n
    induction n with
    | zero =>
      intro x25_1 x25_2 μ25 H locs ls hf hP hD hS hl
      rw [fX0_farthestMatched_L25] at hf
      cases hf
    | succ n ih =>
      intro x25_1 x25_2 μ25 H locs ls hf hP hD hS hl
      rw [fX0_farthestMatched_L25] at hf
      refine lv_iload_n hx hb dX0_farthestMatched_25 rfl (lv_at hl 2 rfl) ?_
      refine lv_iload_n hx hb dX0_farthestMatched_26 rfl (lv_at hl 1 rfl) ?_
      refine lv_iadd hx hb dX0_farthestMatched_27 ?_
      obtain ⟨r_6, h_7, hf⟩ := b1_some hf
      refine si_call S (tX0_isFrequency l K (x25_2 + x25_1) _ h_7) (va_cwS 1 hts (lw_S q861 q862 q94 q863) rfl rfl rfl (by decide +kernel) ⟨(Nat.le_of_ble_eq_true rfl), (Nat.le_of_ble_eq_true rfl)⟩) rfl hl.1 rfl (Nat.le_of_ble_eq_true rfl) ⟨(Nat.le_of_ble_eq_true rfl), (Nat.le_of_ble_eq_true rfl)⟩ dX0_farthestMatched_28 ?_
      clear h_7
      refine lv_if_eq (tgt := 51) hx hb dX0_farthestMatched_31 (by decide) (fun c_8 => ?_) (fun c_8 => ?_)
      · replace hf := it_f hf (bi_e0 c_8)
        clear c_8
        refine lv_iload_n hx hb dX0_farthestMatched_51 rfl (lv_at hl 2 rfl) ?_
        refine W.widen (k := 0) (n := 0) (Nat.le_of_ble_eq_true rfl) (Nat.le_of_ble_eq_true rfl) ?_
        exact hret _ _ _ _ _ _ hf dX0_farthestMatched_52 hP hD hS
      · replace hf := it_t hf (bi_n0 c_8)
        clear c_8
        refine lv_aload_n hx hb dX0_farthestMatched_34 rfl (lv_at hl 0 rfl) ?_
        refine lv_iload_n hx hb dX0_farthestMatched_35 rfl (lv_at hl 2 rfl) ?_
        refine lv_iload_n hx hb dX0_farthestMatched_36 rfl (lv_at hl 1 rfl) ?_
        refine lv_iadd hx hb dX0_farthestMatched_37 ?_
        obtain ⟨r_10, ξ_11, h_9, hf⟩ := b2_some hf
        refine runW_i (va_runV (As := [.int (x25_2 + x25_1)]) (rest := []) S (tX0_isMatched l D d z b fl K (x25_2 + x25_1) μ25 r_10 ξ_11 h_9 _) (cwV 1 hts (lw_V q1193 q1195 qs34 q94 q1196) rfl rfl rfl (by decide +kernel) ⟨(Nat.le_of_ble_eq_true rfl), (Nat.le_of_ble_eq_true rfl)⟩) ⟨Pw.blind, (va_recv hK.1 hP (ci := 1) (q0 := 0) rfl rfl), fun U hU hW => Pw.at hK hP hD hZ hS hA hU hW⟩ rfl rfl hl.1 rfl (lv_room (Nat.le_of_ble_eq_true rfl)) dX0_farthestMatched_38 ⟨(Nat.le_of_ble_eq_true rfl), (Nat.le_of_ble_eq_true rfl)⟩) hP hD hS hA ?_
        clear hP hD hS
        intro H locs hP hD hS
        clear h_9
        refine lv_if_eq (tgt := 51) hx hb dX0_farthestMatched_41 (by decide) (fun c_12 => ?_) (fun c_12 => ?_)
        · replace hf := it_f hf (bi_e0 c_12)
          clear c_12
          refine lv_iload_n hx hb dX0_farthestMatched_51 rfl (lv_at hl 2 rfl) ?_
          refine W.widen (k := 0) (n := 0) (Nat.le_of_ble_eq_true rfl) (Nat.le_of_ble_eq_true rfl) ?_
          exact hret _ _ _ _ _ _ hf dX0_farthestMatched_52 hP hD hS
        · replace hf := it_t hf (bi_n0 c_12)
          clear c_12
          refine lv_iload_n hx hb dX0_farthestMatched_44 rfl (lv_at hl 2 rfl) ?_
          refine lv_iload_n hx hb dX0_farthestMatched_45 rfl (lv_at hl 1 rfl) ?_
          refine lv_iadd hx hb dX0_farthestMatched_46 ?_
          refine lv_topi (fun v_13 e_ => ?_)
          replace hf := nm_some hf v_13 e_
          clear e_
          refine lv_istore_n (lv' := [(2, .int v_13), (0, .ref (b 0)), (1, .int x25_1)]) hx hb dX0_farthestMatched_47 rfl hl (by decide) rfl (fun ls hl => ?_)
          refine lv_goto (tgt := 25) hx hb dX0_farthestMatched_48 (by decide) ?_
          exact ih x25_1 v_13 ξ_11 _ _ _ hf hP hD hS (lv_sub hl [1, 2, 0] rfl)
  unfold fX0_farthestMatched at hf
  refine lv_aload_n hx hb dX0_farthestMatched_0 rfl (lv_at hl 0 rfl) ?_
  refine lv_aload_n hx hb dX0_farthestMatched_1 rfl (lv_at hl 0 rfl) ?_
  refine g_get hx hb hts S.2.2.2.1 hK hP in_X0 0 rfl rfl 8 (by decide) q293 (fun _ h9 => h9) (v := .ref (b 13)) rfl dX0_farthestMatched_2 ?_
  refine g_getN hx hb hts S.2.2.2.1 hK hP in_X8 13 rfl rfl 0 (by decide) q810 (fun _ h9 => h9) (v := .int (μ.1 60)) rfl dX0_farthestMatched_5 ?_
  obtain ⟨r_2, ξ_3, h_1, hf⟩ := b2_some hf
  refine runW_i (va_runV (As := [.int (μ.1 60)]) (rest := []) S (tX0_isMatched l D d z b fl K (μ.1 60) μ r_2 ξ_3 h_1 _) (cwV 1 hts (lw_V q1193 q1195 qs34 q94 q1196) rfl rfl rfl (by decide +kernel) ⟨(Nat.le_of_ble_eq_true rfl), (Nat.le_of_ble_eq_true rfl)⟩) ⟨Pw.blind, (va_recv hK.1 hP (ci := 1) (q0 := 0) rfl rfl), fun U hU hW => Pw.at hK hP hD hZ hS hA hU hW⟩ rfl rfl hl.1 rfl (lv_room (Nat.le_of_ble_eq_true rfl)) dX0_farthestMatched_8 ⟨(Nat.le_of_ble_eq_true rfl), (Nat.le_of_ble_eq_true rfl)⟩) hP hD hS hA ?_
  clear hP hD hS
  intro H locs hP hD hS
  clear h_1
  refine lv_if_ne (tgt := 17) hx hb dX0_farthestMatched_11 (by decide) (fun c_4 => ?_) (fun c_4 => ?_)
  · replace hf := it_t hf (bi_n0 c_4)
    clear c_4
    refine lv_aload_n hx hb dX0_farthestMatched_17 rfl (lv_at hl 0 rfl) ?_
    refine g_get hx hb hts S.2.2.2.1 hK hP in_X0 0 rfl rfl 8 (by decide) q293 (fun _ h9 => h9) (v := .ref (b 13)) rfl dX0_farthestMatched_18 ?_
    refine g_getN hx hb hts S.2.2.2.1 hK hP in_X8 13 rfl rfl 0 (by decide) q810 (fun _ h9 => h9) (v := .int (ξ_3.1 60)) rfl dX0_farthestMatched_21 ?_
    refine lv_topi (fun v_5 e_ => ?_)
    replace hf := nm_some hf v_5 e_
    clear e_
    refine lv_istore_n (lv' := [(2, .int v_5), (0, .ref (b 0)), (1, .int p0)]) hx hb dX0_farthestMatched_24 rfl hl (by decide) rfl (fun ls hl => ?_)
    exact L25 K p0 v_5 ξ_3 _ _ _ hf hP hD hS (lv_sub hl [1, 2, 0] rfl)
  · replace hf := it_f hf (bi_e0 c_4)
    clear c_4
    refine lv_bipush (v := -2) hx hb dX0_farthestMatched_14 (by decide) ?_
    refine W.widen (k := 0) (n := 0) (Nat.le_of_ble_eq_true rfl) (Nat.le_of_ble_eq_true rfl) ?_
    exact hret _ _ _ _ _ _ hf dX0_farthestMatched_16 hP hD hS
def fX0_areSettingsu (K : Nat) (p0 : Int32) (p1 : Int32) (p2 : Int32) (μ : XS) : Option (Bool × XS) :=
  b2 (fX0_isReadyu K μ) fun r_2 ξ_3 =>
  if r_2 = true then
    b1 (fX0_isIn K p0 (0 : Int32) (1 : Int32)) fun r_5 =>
    if r_5 = true then
      b1 (fX0_isSetting K p1) fun r_8 =>
      if r_8 = true then
        b1 (fX0_isSetting K p2) fun r_11 =>
        if r_11 = true then
          some (true, ξ_3)
        else
          some (false, ξ_3)
      else
        some (false, ξ_3)
    else
      some (false, ξ_3)
  else
    some (false, ξ_3)
set_option maxHeartbeats 4000000 in
set_option maxRecDepth 100000 in
theorem tX0_areSettingsu (l : Launch) (D : va_G) (d : Nat → ClassId) (z : ZT) (b : Nat → Nat) (fl : Option Nat) (K : Nat) (p0 : Int32) (p1 : Int32) (p2 : Int32) (μ : XS) (r : Bool) (μ' : XS) (hf : fX0_areSettingsu K p0 p1 p2 μ = some (r, μ')) : CI l yX0_areSettings (ws_ yX0_areSettings cX0_areSettings 4 (Option.some Jvm.ClassFile.FieldType.boolean)) (rmc 2 0 0 42) D d z [.ref (b 0), .int p0, .int p1, .int p2] (XU d z b fl μ) (bi r) (XU d z b fl μ') := by
  refine CI.of2 (own := RX0) rfl (by decide) (Nat.le_of_ble_eq_true rfl) (bi_nar r) ?_
  intro p e s m args below meth c A Q ls S hin hK hP hD hZ hS hA hl hret0
  have hret : ∀ (x : Bool) (μx : XS) (H : Heap) (locs : List Loc) (pc : Nat) (ls' : Array Slot), some (x, μx) = some (r, μ') → decode cX0_areSettings pc = .ok (.ireturn, 1) → va_P D CL (XU d z b fl μx) H → va_D A (XU d z b fl μx) → va_S A s.heap H locs → W p l e (rmc 2 0 0 42) s m args below meth c H locs 0 0 Q (F0 m pc ls' [.int (bi x)]) := by
    intro x μx H locs pc ls' h9 hdg hP hD hS
    obtain ⟨rfl, rfl⟩ := so_2 h9
    exact hret0 H locs pc ls' hdg hP hD hS
  have hx := S.1
  have hb := S.2.1
  have hts := S.2.2.2.2
  have hl : lv_has ls 4 [(0, .ref (b 0)), (1, .int p0), (2, .int p1), (3, .int p2)] := hl
  unfold fX0_areSettingsu at hf
  refine lv_aload_n hx hb dX0_areSettings_0 rfl (lv_at hl 0 rfl) ?_
  obtain ⟨r_2, ξ_3, h_1, hf⟩ := b2_some hf
  refine runW_i (va_runV (As := []) (rest := []) S (tX0_isReadyu l D d z b fl K μ r_2 ξ_3 h_1 _) (cwV 0 hts (lw_V q857 q859 qs18 q94 q860) rfl rfl rfl (by decide +kernel) ⟨(Nat.le_of_ble_eq_true rfl), (Nat.le_of_ble_eq_true rfl)⟩) ⟨Pw.blind, (va_recv hK.1 hP (ci := 1) (q0 := 0) rfl rfl), fun U hU hW => Pw.at hK hP hD hZ hS hA hU hW⟩ rfl rfl hl.1 rfl (lv_room (Nat.le_of_ble_eq_true rfl)) dX0_areSettings_1 ⟨(Nat.le_of_ble_eq_true rfl), (Nat.le_of_ble_eq_true rfl)⟩) hP hD hS hA ?_
  clear hP hD hS
  intro H locs hP hD hS
  clear h_1
  refine lv_if_eq (tgt := 34) hx hb dX0_areSettings_4 (by decide) (fun c_4 => ?_) (fun c_4 => ?_)
  · replace hf := it_f hf (bi_e0 c_4)
    clear c_4
    refine lv_iconst (v := 0) hx hb dX0_areSettings_34 (by decide) ?_
    refine W.widen (k := 0) (n := 0) (Nat.le_of_ble_eq_true rfl) (Nat.le_of_ble_eq_true rfl) ?_
    exact hret _ _ _ _ _ _ hf dX0_areSettings_35 hP hD hS
  · replace hf := it_t hf (bi_n0 c_4)
    clear c_4
    refine lv_iload_n hx hb dX0_areSettings_7 rfl (lv_at hl 1 rfl) ?_
    refine lv_iconst (v := 0) hx hb dX0_areSettings_8 (by decide) ?_
    refine lv_iconst (v := 1) hx hb dX0_areSettings_9 (by decide) ?_
    obtain ⟨r_5, h_6, hf⟩ := b1_some hf
    refine si_call S (tX0_isIn l K p0 (0 : Int32) (1 : Int32) _ h_6) (va_cwS 3 hts (lw_S q331 q332 q94 q333) rfl rfl rfl (by decide +kernel) ⟨(Nat.le_of_ble_eq_true rfl), (Nat.le_of_ble_eq_true rfl)⟩) rfl hl.1 rfl (Nat.le_of_ble_eq_true rfl) ⟨(Nat.le_of_ble_eq_true rfl), (Nat.le_of_ble_eq_true rfl)⟩ dX0_areSettings_10 ?_
    clear h_6
    refine lv_if_eq (tgt := 34) hx hb dX0_areSettings_13 (by decide) (fun c_7 => ?_) (fun c_7 => ?_)
    · replace hf := it_f hf (bi_e0 c_7)
      clear c_7
      refine lv_iconst (v := 0) hx hb dX0_areSettings_34 (by decide) ?_
      refine W.widen (k := 0) (n := 0) (Nat.le_of_ble_eq_true rfl) (Nat.le_of_ble_eq_true rfl) ?_
      exact hret _ _ _ _ _ _ hf dX0_areSettings_35 hP hD hS
    · replace hf := it_t hf (bi_n0 c_7)
      clear c_7
      refine lv_iload_n hx hb dX0_areSettings_16 rfl (lv_at hl 2 rfl) ?_
      obtain ⟨r_8, h_9, hf⟩ := b1_some hf
      refine si_call S (tX0_isSetting l K p1 _ h_9) (va_cwS 1 hts (lw_S q1060 q1061 q94 q1062) rfl rfl rfl (by decide +kernel) ⟨(Nat.le_of_ble_eq_true rfl), (Nat.le_of_ble_eq_true rfl)⟩) rfl hl.1 rfl (Nat.le_of_ble_eq_true rfl) ⟨(Nat.le_of_ble_eq_true rfl), (Nat.le_of_ble_eq_true rfl)⟩ dX0_areSettings_17 ?_
      clear h_9
      refine lv_if_eq (tgt := 34) hx hb dX0_areSettings_20 (by decide) (fun c_10 => ?_) (fun c_10 => ?_)
      · replace hf := it_f hf (bi_e0 c_10)
        clear c_10
        refine lv_iconst (v := 0) hx hb dX0_areSettings_34 (by decide) ?_
        refine W.widen (k := 0) (n := 0) (Nat.le_of_ble_eq_true rfl) (Nat.le_of_ble_eq_true rfl) ?_
        exact hret _ _ _ _ _ _ hf dX0_areSettings_35 hP hD hS
      · replace hf := it_t hf (bi_n0 c_10)
        clear c_10
        refine lv_iload_n hx hb dX0_areSettings_23 rfl (lv_at hl 3 rfl) ?_
        obtain ⟨r_11, h_12, hf⟩ := b1_some hf
        refine si_call S (tX0_isSetting l K p2 _ h_12) (va_cwS 1 hts (lw_S q1060 q1061 q94 q1062) rfl rfl rfl (by decide +kernel) ⟨(Nat.le_of_ble_eq_true rfl), (Nat.le_of_ble_eq_true rfl)⟩) rfl hl.1 rfl (Nat.le_of_ble_eq_true rfl) ⟨(Nat.le_of_ble_eq_true rfl), (Nat.le_of_ble_eq_true rfl)⟩ dX0_areSettings_24 ?_
        clear h_12
        refine lv_if_eq (tgt := 34) hx hb dX0_areSettings_27 (by decide) (fun c_13 => ?_) (fun c_13 => ?_)
        · replace hf := it_f hf (bi_e0 c_13)
          clear c_13
          refine lv_iconst (v := 0) hx hb dX0_areSettings_34 (by decide) ?_
          refine W.widen (k := 0) (n := 0) (Nat.le_of_ble_eq_true rfl) (Nat.le_of_ble_eq_true rfl) ?_
          exact hret _ _ _ _ _ _ hf dX0_areSettings_35 hP hD hS
        · replace hf := it_t hf (bi_n0 c_13)
          clear c_13
          refine lv_iconst (v := 1) hx hb dX0_areSettings_30 (by decide) ?_
          refine lv_goto (tgt := 35) hx hb dX0_areSettings_31 (by decide) ?_
          refine W.widen (k := 0) (n := 0) (Nat.le_of_ble_eq_true rfl) (Nat.le_of_ble_eq_true rfl) ?_
          exact hret _ _ _ _ _ _ hf dX0_areSettings_35 hP hD hS
