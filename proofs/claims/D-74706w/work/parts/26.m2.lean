/-! the text methods of AntennaTunerModel -/
set_option maxRecDepth 100000
def fX4_isKeyword_L28 (K : Nat) (p0 : Nat) : Nat → Int32 → MS → Option (Bool × MS)
  | 0, _, _ => none
  | n + 1, x28_2, μ28 =>
    b1 (fJ5_length K p0) fun r_5 =>
    if r_5 ≤ x28_2 then
      some (true, μ28)
    else
      ga (ix ((μ28.1 21) + x28_2) 500) <|
      b1 (fJ5_charAt K p0 x28_2) fun r_9 =>
      if (μ28.2.2 17 ((μ28.1 21) + x28_2).toNatClampNeg) = (chr r_9) then
        fX4_isKeyword_L28 K p0 n (x28_2 + (1 : Int32)) μ28
      else
        some (false, μ28)
def fX4_isKeyword (K : Nat) (p0 : Nat) (μ : MS) : Option (Bool × MS) :=
  if (μ.1 22) = (2 : Int32) then
    b1 (fJ5_length K p0) fun r_2 =>
    if ((μ.1 20) - (μ.1 21)) = r_2 then
      fX4_isKeyword_L28 K p0 K (0 : Int32) μ
    else
      some (false, μ)
  else
    some (false, μ)
set_option maxHeartbeats 4000000 in
set_option maxRecDepth 100000 in
theorem tX4_isKeyword (l : Launch) (D : va_G) (d : Nat → ClassId) (z : ZT) (o : Nat) (a : Nat → Nat) (K : Nat) (p0 : Nat) (μ : MS) (r : Bool) (μ' : MS) (hf : fX4_isKeyword K p0 μ = some (r, μ')) (hp0 : p0 < 6) : CI l yX4_isKeyword (ws_ yX4_isKeyword cX4_isKeyword 3 (Option.some Jvm.ClassFile.FieldType.boolean)) (rmc 4 0 0 85) D d z [.ref o, .ref (z.1 p0)] (MP d o a μ) (bi r) (MP d o a μ') := by
  refine mZ_of rfl (by decide) (Nat.le_of_ble_eq_true rfl) ?_
  intro p e s m args below meth c A Q ls S hK hP hD hZ hS hA hl hret
  have hx := S.1
  have hb := S.2.1
  have hts := S.2.2.2.2
  have hl : lv_has ls 3 [(0, .ref o), (1, .ref (z.1 p0))] := hl
  have L28 : ∀ (n : Nat) (x28_2 : Int32) (μ28 : MS) (H : Heap) (locs : List Loc) (ls : Array Slot), fX4_isKeyword_L28 K p0 n x28_2 μ28 = some (r, μ') → va_P D CL (MP d o a μ28) H → va_D A (MP d o a μ28) → va_S A s.heap H locs → lv_has ls 3 [(0, .ref o), (1, .ref (z.1 p0)), (2, .int x28_2)] → W p l e (rmc 4 0 0 85) s m args below meth c H locs 0 0 Q (F0 m 28 ls []) := by
    intro n
    induction n with
    | zero =>
      intro x28_2 μ28 H locs ls hf hP hD hS hl
      rw [fX4_isKeyword_L28] at hf
      cases hf
    | succ n ih =>
      intro x28_2 μ28 H locs ls hf hP hD hS hl
      rw [fX4_isKeyword_L28] at hf
      refine lv_iload_n hx hb dX4_isKeyword_28 rfl (lv_at hl 2 rfl) ?_
      refine lv_aload_n hx hb dX4_isKeyword_29 rfl (lv_at hl 1 rfl) ?_
      obtain ⟨r_5, h_6, hf⟩ := b1_some hf
      refine run_iE (va_runV (As := []) (rest := [.int x28_2]) S (tJ5_length l D d z K p0 hp0 r_5 h_6 _) (cwV 0 hts (lw_V q1807 q1808 q1809 q106 q1810) rfl rfl rfl (by decide +kernel) ⟨(Nat.le_of_ble_eq_true rfl), (Nat.le_of_ble_eq_true rfl)⟩) ⟨Pw.blind, vk_recv hZ.2.2.2.2.1 hp0 hS, fun U hU hW => Pw.cut (w := []) (tl := _) hK hP hD hZ hS hA [] rfl rfl hU hW⟩ rfl rfl hl.1 rfl (lv_room (Nat.le_of_ble_eq_true rfl)) dX4_isKeyword_30 ⟨(Nat.le_of_ble_eq_true rfl), (Nat.le_of_ble_eq_true rfl)⟩) hP hD hS hA ?_
      clear hP hD hS
      intro H locs hP hD hS
      clear h_6
      refine lv_icmp_ge (tgt := 63) hx hb dX4_isKeyword_33 (by decide) (fun c_7 => ?_) (fun c_7 => ?_)
      · replace hf := it_t hf c_7
        clear c_7
        refine lv_iconst (v := 1) hx hb dX4_isKeyword_63 (by decide) ?_
        exact hret _ _ _ _ _ _ hf dX4_isKeyword_64 hP hD hS
      · replace hf := it_f hf c_7
        clear c_7
        refine lv_aload_n hx hb dX4_isKeyword_36 rfl (lv_at hl 0 rfl) ?_
        refine m_get S hK hP 17 (by decide) q1617 rfl dX4_isKeyword_37 ?_
        refine lv_aload_n hx hb dX4_isKeyword_40 rfl (lv_at hl 0 rfl) ?_
        refine m_get S hK hP 21 (by decide) q1621 rfl dX4_isKeyword_41 ?_
        refine lv_iload_n hx hb dX4_isKeyword_44 rfl (lv_at hl 2 rfl) ?_
        refine lv_iadd hx hb dX4_isKeyword_45 ?_
        obtain ⟨g_8, hf⟩ := ga_some hf
        refine m_ild S hK hP 17 8 rfl g_8 dX4_isKeyword_46 ?_
        clear g_8
        refine lv_aload_n hx hb dX4_isKeyword_47 rfl (lv_at hl 1 rfl) ?_
        refine lv_iload_n hx hb dX4_isKeyword_48 rfl (lv_at hl 2 rfl) ?_
        obtain ⟨r_9, h_10, hf⟩ := b1_some hf
        refine run_iE (va_runV (As := [.int x28_2]) (rest := [.int (μ28.2.2 17 ((μ28.1 21) + x28_2).toNatClampNeg)]) S (tJ5_charAt l D d z K p0 hp0 x28_2 r_9 h_10 _) (cwV 1 hts (lw_V q1815 q1816 q1817 q106 q1818) rfl rfl rfl (by decide +kernel) ⟨(Nat.le_of_ble_eq_true rfl), (Nat.le_of_ble_eq_true rfl)⟩) ⟨Pw.blind, vk_recv hZ.2.2.2.2.1 hp0 hS, fun U hU hW => Pw.cut (w := []) (tl := _) hK hP hD hZ hS hA [] rfl rfl hU hW⟩ rfl rfl hl.1 rfl (lv_room (Nat.le_of_ble_eq_true rfl)) dX4_isKeyword_49 ⟨(Nat.le_of_ble_eq_true rfl), (Nat.le_of_ble_eq_true rfl)⟩) hP hD hS hA ?_
        clear hP hD hS
        intro H locs hP hD hS
        clear h_10
        refine lv_icmp_eq (tgt := 57) hx hb dX4_isKeyword_52 (by decide) (fun c_11 => ?_) (fun c_11 => ?_)
        · replace hf := it_t hf c_11
          clear c_11
          refine lv_iinc (v := x28_2 + (1 : Int32)) (lv' := [(2, .int (x28_2 + (1 : Int32))), (0, .ref o), (1, .ref (z.1 p0))]) hx hb dX4_isKeyword_57 hl (k := 2) rfl rfl (by decide) rfl (fun ls hl => ?_)
          refine lv_goto (tgt := 28) hx hb dX4_isKeyword_60 (by decide) ?_
          exact ih (x28_2 + (1 : Int32)) μ28 _ _ _ hf hP hD hS (lv_sub hl [1, 2, 0] rfl)
        · replace hf := it_f hf c_11
          clear c_11
          refine lv_iconst (v := 0) hx hb dX4_isKeyword_55 (by decide) ?_
          exact hret _ _ _ _ _ _ hf dX4_isKeyword_56 hP hD hS
  unfold fX4_isKeyword at hf
  refine lv_aload_n hx hb dX4_isKeyword_0 rfl (lv_at hl 0 rfl) ?_
  refine m_get S hK hP 22 (by decide) q1622 rfl dX4_isKeyword_1 ?_
  refine lv_iconst (v := 2) hx hb dX4_isKeyword_4 (by decide) ?_
  refine lv_icmp_ne (tgt := 24) hx hb dX4_isKeyword_5 (by decide) (fun c_1 => ?_) (fun c_1 => ?_)
  · replace hf := it_f hf c_1
    clear c_1
    refine lv_iconst (v := 0) hx hb dX4_isKeyword_24 (by decide) ?_
    exact hret _ _ _ _ _ _ hf dX4_isKeyword_25 hP hD hS
  · replace hf := it_t hf c_1
    clear c_1
    refine lv_aload_n hx hb dX4_isKeyword_8 rfl (lv_at hl 0 rfl) ?_
    refine m_get S hK hP 20 (by decide) q1620 rfl dX4_isKeyword_9 ?_
    refine lv_aload_n hx hb dX4_isKeyword_12 rfl (lv_at hl 0 rfl) ?_
    refine m_get S hK hP 21 (by decide) q1621 rfl dX4_isKeyword_13 ?_
    refine lv_isub hx hb dX4_isKeyword_16 ?_
    refine lv_aload_n hx hb dX4_isKeyword_17 rfl (lv_at hl 1 rfl) ?_
    obtain ⟨r_2, h_3, hf⟩ := b1_some hf
    refine run_iE (va_runV (As := []) (rest := [.int ((μ.1 20) - (μ.1 21))]) S (tJ5_length l D d z K p0 hp0 r_2 h_3 _) (cwV 0 hts (lw_V q1807 q1808 q1809 q106 q1810) rfl rfl rfl (by decide +kernel) ⟨(Nat.le_of_ble_eq_true rfl), (Nat.le_of_ble_eq_true rfl)⟩) ⟨Pw.blind, vk_recv hZ.2.2.2.2.1 hp0 hS, fun U hU hW => Pw.cut (w := []) (tl := _) hK hP hD hZ hS hA [] rfl rfl hU hW⟩ rfl rfl hl.1 rfl (lv_room (Nat.le_of_ble_eq_true rfl)) dX4_isKeyword_18 ⟨(Nat.le_of_ble_eq_true rfl), (Nat.le_of_ble_eq_true rfl)⟩) hP hD hS hA ?_
    clear hP hD hS
    intro H locs hP hD hS
    clear h_3
    refine lv_icmp_eq (tgt := 26) hx hb dX4_isKeyword_21 (by decide) (fun c_4 => ?_) (fun c_4 => ?_)
    · replace hf := it_t hf c_4
      clear c_4
      refine lv_iconst (v := 0) hx hb dX4_isKeyword_26 (by decide) ?_
      refine lv_istore_n (lv' := [(2, .int (0 : Int32)), (0, .ref o), (1, .ref (z.1 p0))]) hx hb dX4_isKeyword_27 rfl hl (by decide) rfl (fun ls hl => ?_)
      exact L28 K (0 : Int32) μ _ _ _ hf hP hD hS (lv_sub hl [1, 2, 0] rfl)
    · replace hf := it_f hf c_4
      clear c_4
      refine lv_iconst (v := 0) hx hb dX4_isKeyword_24 (by decide) ?_
      exact hret _ _ _ _ _ _ hf dX4_isKeyword_25 hP hD hS
def fX4_expectKeyword (K : Nat) (p0 : Nat) (μ : MS) : Option MS :=
  b2 (fX4_isKeyword K p0 μ) fun r_3 μ_1 =>
  if r_3 = true then
    b1 (fX4_next K μ_1) fun μ_5 =>
    some μ_5
  else
    b1 (fX4_fail K (1 : Int32) μ_1) fun μ_7 =>
    b1 (fX4_next K μ_7) fun μ_9 =>
    some μ_9
set_option maxHeartbeats 4000000 in
set_option maxRecDepth 100000 in
theorem tX4_expectKeyword (l : Launch) (D : va_G) (d : Nat → ClassId) (z : ZT) (o : Nat) (a : Nat → Nat) (K : Nat) (p0 : Nat) (μ : MS) (μ' : MS) (hf : fX4_expectKeyword K p0 μ = some μ') (hp0 : p0 < 6) : CV l yX4_expectKeyword (ws_ yX4_expectKeyword cX4_expectKeyword 2 (Option.none : Option Jvm.ClassFile.FieldType)) (rmc 5 0 0 107) D d z [.ref o, .ref (z.1 p0)] (MP d o a μ) (MP d o a μ') := by
  refine mV_of rfl (by decide) (Nat.le_of_ble_eq_true rfl) ?_
  intro p e s m args below meth c A Q ls S hK hP hD hZ hS hA hl hret
  have hx := S.1
  have hb := S.2.1
  have hts := S.2.2.2.2
  have hl : lv_has ls 2 [(0, .ref o), (1, .ref (z.1 p0))] := hl
  unfold fX4_expectKeyword at hf
  refine lv_aload_n hx hb dX4_expectKeyword_0 rfl (lv_at hl 0 rfl) ?_
  refine lv_aload_n hx hb dX4_expectKeyword_1 rfl (lv_at hl 1 rfl) ?_
  obtain ⟨r_3, μ_1, h_2, hf⟩ := b2_some hf
  refine ci_call S hK hP hD hZ hS hA (tX4_isKeyword l D d z o a K p0 μ _ _ h_2 hp0) (cwV 1 hts (lw_V q1803 q1805 qs59 q101 q1806) rfl rfl rfl (by decide +kernel) ⟨Nat.le_of_ble_eq_true rfl, Nat.le_of_ble_eq_true rfl⟩) (ci := 0) (q0 := 0) rfl rfl rfl hl.1 rfl (Nat.le_of_ble_eq_true rfl) ⟨Nat.le_of_ble_eq_true rfl, Nat.le_of_ble_eq_true rfl⟩ dX4_expectKeyword_2 ?_
  clear hP hD hS
  intro H locs hP hD hS
  clear h_2
  refine lv_if_ne (tgt := 13) hx hb dX4_expectKeyword_5 (by decide) (fun c_4 => ?_) (fun c_4 => ?_)
  · replace hf := it_t hf (bi_n0 c_4)
    clear c_4
    refine lv_aload_n hx hb dX4_expectKeyword_13 rfl (lv_at hl 0 rfl) ?_
    obtain ⟨μ_5, h_6, hf⟩ := b1_some hf
    refine cv_call S hK hP hD hZ hS hA (tX4_next l D d z o a K μ_1 _ h_6) (cwV 0 hts (lw_V q1765 q1767 qs51 q101 q1768) rfl rfl rfl (by decide +kernel) ⟨Nat.le_of_ble_eq_true rfl, Nat.le_of_ble_eq_true rfl⟩) (ci := 0) (q0 := 0) rfl rfl rfl hl.1 rfl (Nat.le_of_ble_eq_true rfl) ⟨Nat.le_of_ble_eq_true rfl, Nat.le_of_ble_eq_true rfl⟩ dX4_expectKeyword_14 ?_
    clear hP hD hS
    intro H locs hP hD hS
    clear h_6
    exact hret _ _ _ _ _ hf dX4_expectKeyword_17 hP hD hS
  · replace hf := it_f hf (bi_e0 c_4)
    clear c_4
    refine lv_aload_n hx hb dX4_expectKeyword_8 rfl (lv_at hl 0 rfl) ?_
    refine lv_iconst (v := 1) hx hb dX4_expectKeyword_9 (by decide) ?_
    obtain ⟨μ_7, h_8, hf⟩ := b1_some hf
    refine cv_call S hK hP hD hZ hS hA (tX4_fail l D d z o a K (1 : Int32) μ_1 _ h_8) (cwV 1 hts (lw_V q1830 q1832 qs60 q101 q1833) rfl rfl rfl (by decide +kernel) ⟨Nat.le_of_ble_eq_true rfl, Nat.le_of_ble_eq_true rfl⟩) (ci := 0) (q0 := 0) rfl rfl rfl hl.1 rfl (Nat.le_of_ble_eq_true rfl) ⟨Nat.le_of_ble_eq_true rfl, Nat.le_of_ble_eq_true rfl⟩ dX4_expectKeyword_10 ?_
    clear hP hD hS
    intro H locs hP hD hS
    clear h_8
    refine lv_aload_n hx hb dX4_expectKeyword_13 rfl (lv_at hl 0 rfl) ?_
    obtain ⟨μ_9, h_10, hf⟩ := b1_some hf
    refine cv_call S hK hP hD hZ hS hA (tX4_next l D d z o a K μ_7 _ h_10) (cwV 0 hts (lw_V q1765 q1767 qs51 q101 q1768) rfl rfl rfl (by decide +kernel) ⟨Nat.le_of_ble_eq_true rfl, Nat.le_of_ble_eq_true rfl⟩) (ci := 0) (q0 := 0) rfl rfl rfl hl.1 rfl (Nat.le_of_ble_eq_true rfl) ⟨Nat.le_of_ble_eq_true rfl, Nat.le_of_ble_eq_true rfl⟩ dX4_expectKeyword_14 ?_
    clear hP hD hS
    intro H locs hP hD hS
    clear h_10
    exact hret _ _ _ _ _ hf dX4_expectKeyword_17 hP hD hS
def fX4_parseHead (K : Nat) (μ : MS) : Option MS :=
  b1 (fX4_expectKeyword K 1 μ) fun μ_1 =>
  b2 (fX4_readIn K (10 : Int32) (500 : Int32) μ_1) fun r_5 μ_3 =>
  ga (ix (0 : Int32) 6) <|
  nm (sF μ_3 26 (upd (μ_3.2.2 26) (0 : Int32).toNatClampNeg r_5)) fun μ_7 =>
  b2 (fX4_readIn K (20 : Int32) (500 : Int32) μ_7) fun r_10 μ_8 =>
  ga (ix (1 : Int32) 6) <|
  nm (sF μ_8 26 (upd (μ_8.2.2 26) (1 : Int32).toNatClampNeg r_10)) fun μ_12 =>
  b1 (fX4_expectSemicolon K μ_12) fun μ_13 =>
  b1 (fX4_expectKeyword K 2 μ_13) fun μ_15 =>
  b2 (fX4_readIn K (1 : Int32) (50 : Int32) μ_15) fun r_19 μ_17 =>
  ga (ix (2 : Int32) 6) <|
  nm (sF μ_17 26 (upd (μ_17.2.2 26) (2 : Int32).toNatClampNeg r_19)) fun μ_21 =>
  b1 (fX4_expectSemicolon K μ_21) fun μ_22 =>
  b1 (fX4_expectKeyword K 3 μ_22) fun μ_24 =>
  b2 (fX4_readIn K (1 : Int32) (1500 : Int32) μ_24) fun r_28 μ_26 =>
  ga (ix (3 : Int32) 6) <|
  nm (sF μ_26 26 (upd (μ_26.2.2 26) (3 : Int32).toNatClampNeg r_28)) fun μ_30 =>
  b2 (fX4_readIn K (100 : Int32) (5000 : Int32) μ_30) fun r_33 μ_31 =>
  ga (ix (4 : Int32) 6) <|
  nm (sF μ_31 26 (upd (μ_31.2.2 26) (4 : Int32).toNatClampNeg r_33)) fun μ_35 =>
  b2 (fX4_readIn K (101 : Int32) (1000 : Int32) μ_35) fun r_38 μ_36 =>
  ga (ix (5 : Int32) 6) <|
  nm (sF μ_36 26 (upd (μ_36.2.2 26) (5 : Int32).toNatClampNeg r_38)) fun μ_40 =>
  b1 (fX4_expectSemicolon K μ_40) fun μ_41 =>
  some μ_41
set_option maxHeartbeats 4000000 in
set_option maxRecDepth 100000 in
theorem tX4_parseHead (l : Launch) (D : va_G) (d : Nat → ClassId) (z : ZT) (o : Nat) (a : Nat → Nat) (K : Nat) (μ : MS) (μ' : MS) (hf : fX4_parseHead K μ = some μ') : CV l yX4_parseHead (ws_ yX4_parseHead cX4_parseHead 1 (Option.none : Option Jvm.ClassFile.FieldType)) (rmc 6 0 0 134) D d z [.ref o] (MP d o a μ) (MP d o a μ') := by
  refine mV_of rfl (by decide) (Nat.le_of_ble_eq_true rfl) ?_
  intro p e s m args below meth c A Q ls S hK hP hD hZ hS hA hl hret
  have hx := S.1
  have hb := S.2.1
  have hts := S.2.2.2.2
  have hl : lv_has ls 1 [(0, .ref o)] := hl
  unfold fX4_parseHead at hf
  refine lv_aload_n hx hb dX4_parseHead_0 rfl (lv_at hl 0 rfl) ?_
  refine va_ldcS (tx := "coil") (q := z.1 1) hx hb S.2.2.2.1 (hZ.2.2.2.2.2.1 ("AntennaTunerModel", 149, "coil", 1) (List.mem_of_getElem? (i := 6) rfl)) dX4_parseHead_1 ?_
  obtain ⟨μ_1, h_2, hf⟩ := b1_some hf
  refine cv_call S hK hP hD hZ hS hA (tX4_expectKeyword l D d z o a K 1 μ _ h_2 (by decide)) (cwV 1 hts (lw_V q1799 q1801 qs58 q101 q1802) rfl rfl rfl (by decide +kernel) ⟨Nat.le_of_ble_eq_true rfl, Nat.le_of_ble_eq_true rfl⟩) (ci := 0) (q0 := 0) rfl rfl rfl hl.1 rfl (Nat.le_of_ble_eq_true rfl) ⟨Nat.le_of_ble_eq_true rfl, Nat.le_of_ble_eq_true rfl⟩ dX4_parseHead_3 ?_
  clear hP hD hS
  intro H locs hP hD hS
  clear h_2
  refine lv_aload_n hx hb dX4_parseHead_6 rfl (lv_at hl 0 rfl) ?_
  refine m_get S hK hP 26 (by decide) q1626 rfl dX4_parseHead_7 ?_
  refine lv_iconst (v := 0) hx hb dX4_parseHead_10 (by decide) ?_
  refine lv_aload_n hx hb dX4_parseHead_11 rfl (lv_at hl 0 rfl) ?_
  refine lv_bipush (v := 10) hx hb dX4_parseHead_12 (by decide) ?_
  refine lv_sipush (v := 500) hx hb dX4_parseHead_14 (by decide) ?_
  obtain ⟨r_5, μ_3, h_4, hf⟩ := b2_some hf
  refine ci_call S hK hP hD hZ hS hA (tX4_readIn l D d z o a K (10 : Int32) (500 : Int32) μ_1 _ _ h_4) (cwV 2 hts (lw_V q1834 q1836 qs61 q101 q1837) rfl rfl rfl (by decide +kernel) ⟨Nat.le_of_ble_eq_true rfl, Nat.le_of_ble_eq_true rfl⟩) (ci := 0) (q0 := 0) rfl rfl rfl hl.1 rfl (Nat.le_of_ble_eq_true rfl) ⟨Nat.le_of_ble_eq_true rfl, Nat.le_of_ble_eq_true rfl⟩ dX4_parseHead_17 ?_
  clear hP hD hS
  intro H locs hP hD hS
  clear h_4
  obtain ⟨g_6, hf⟩ := ga_some hf
  refine m_ist S hK hP hD hS 26 9 rfl g_6 rfl dX4_parseHead_20 ?_
  clear hP hD hS
  intro μ_7 e_ H locs hP hD hS
  replace hf := nm_some hf μ_7 e_
  clear e_
  clear g_6
  refine lv_aload_n hx hb dX4_parseHead_21 rfl (lv_at hl 0 rfl) ?_
  refine m_get S hK hP 26 (by decide) q1626 rfl dX4_parseHead_22 ?_
  refine lv_iconst (v := 1) hx hb dX4_parseHead_25 (by decide) ?_
  refine lv_aload_n hx hb dX4_parseHead_26 rfl (lv_at hl 0 rfl) ?_
  refine lv_bipush (v := 20) hx hb dX4_parseHead_27 (by decide) ?_
  refine lv_sipush (v := 500) hx hb dX4_parseHead_29 (by decide) ?_
  obtain ⟨r_10, μ_8, h_9, hf⟩ := b2_some hf
  refine ci_call S hK hP hD hZ hS hA (tX4_readIn l D d z o a K (20 : Int32) (500 : Int32) μ_7 _ _ h_9) (cwV 2 hts (lw_V q1834 q1836 qs61 q101 q1837) rfl rfl rfl (by decide +kernel) ⟨Nat.le_of_ble_eq_true rfl, Nat.le_of_ble_eq_true rfl⟩) (ci := 0) (q0 := 0) rfl rfl rfl hl.1 rfl (Nat.le_of_ble_eq_true rfl) ⟨Nat.le_of_ble_eq_true rfl, Nat.le_of_ble_eq_true rfl⟩ dX4_parseHead_32 ?_
  clear hP hD hS
  intro H locs hP hD hS
  clear h_9
  obtain ⟨g_11, hf⟩ := ga_some hf
  refine m_ist S hK hP hD hS 26 9 rfl g_11 rfl dX4_parseHead_35 ?_
  clear hP hD hS
  intro μ_12 e_ H locs hP hD hS
  replace hf := nm_some hf μ_12 e_
  clear e_
  clear g_11
  refine lv_aload_n hx hb dX4_parseHead_36 rfl (lv_at hl 0 rfl) ?_
  obtain ⟨μ_13, h_14, hf⟩ := b1_some hf
  refine cv_call S hK hP hD hZ hS hA (tX4_expectSemicolon l D d z o a K μ_12 _ h_14) (cwV 0 hts (lw_V q1842 q1844 qs63 q101 q1845) rfl rfl rfl (by decide +kernel) ⟨Nat.le_of_ble_eq_true rfl, Nat.le_of_ble_eq_true rfl⟩) (ci := 0) (q0 := 0) rfl rfl rfl hl.1 rfl (Nat.le_of_ble_eq_true rfl) ⟨Nat.le_of_ble_eq_true rfl, Nat.le_of_ble_eq_true rfl⟩ dX4_parseHead_37 ?_
  clear hP hD hS
  intro H locs hP hD hS
  clear h_14
  refine lv_aload_n hx hb dX4_parseHead_40 rfl (lv_at hl 0 rfl) ?_
  refine va_ldcS (tx := "capacitor") (q := z.1 2) hx hb S.2.2.2.1 (hZ.2.2.2.2.2.1 ("AntennaTunerModel", 162, "capacitor", 2) (List.mem_of_getElem? (i := 7) rfl)) dX4_parseHead_41 ?_
  obtain ⟨μ_15, h_16, hf⟩ := b1_some hf
  refine cv_call S hK hP hD hZ hS hA (tX4_expectKeyword l D d z o a K 2 μ_13 _ h_16 (by decide)) (cwV 1 hts (lw_V q1799 q1801 qs58 q101 q1802) rfl rfl rfl (by decide +kernel) ⟨Nat.le_of_ble_eq_true rfl, Nat.le_of_ble_eq_true rfl⟩) (ci := 0) (q0 := 0) rfl rfl rfl hl.1 rfl (Nat.le_of_ble_eq_true rfl) ⟨Nat.le_of_ble_eq_true rfl, Nat.le_of_ble_eq_true rfl⟩ dX4_parseHead_43 ?_
  clear hP hD hS
  intro H locs hP hD hS
  clear h_16
  refine lv_aload_n hx hb dX4_parseHead_46 rfl (lv_at hl 0 rfl) ?_
  refine m_get S hK hP 26 (by decide) q1626 rfl dX4_parseHead_47 ?_
  refine lv_iconst (v := 2) hx hb dX4_parseHead_50 (by decide) ?_
  refine lv_aload_n hx hb dX4_parseHead_51 rfl (lv_at hl 0 rfl) ?_
  refine lv_iconst (v := 1) hx hb dX4_parseHead_52 (by decide) ?_
  refine lv_bipush (v := 50) hx hb dX4_parseHead_53 (by decide) ?_
  obtain ⟨r_19, μ_17, h_18, hf⟩ := b2_some hf
  refine ci_call S hK hP hD hZ hS hA (tX4_readIn l D d z o a K (1 : Int32) (50 : Int32) μ_15 _ _ h_18) (cwV 2 hts (lw_V q1834 q1836 qs61 q101 q1837) rfl rfl rfl (by decide +kernel) ⟨Nat.le_of_ble_eq_true rfl, Nat.le_of_ble_eq_true rfl⟩) (ci := 0) (q0 := 0) rfl rfl rfl hl.1 rfl (Nat.le_of_ble_eq_true rfl) ⟨Nat.le_of_ble_eq_true rfl, Nat.le_of_ble_eq_true rfl⟩ dX4_parseHead_55 ?_
  clear hP hD hS
  intro H locs hP hD hS
  clear h_18
  obtain ⟨g_20, hf⟩ := ga_some hf
  refine m_ist S hK hP hD hS 26 9 rfl g_20 rfl dX4_parseHead_58 ?_
  clear hP hD hS
  intro μ_21 e_ H locs hP hD hS
  replace hf := nm_some hf μ_21 e_
  clear e_
  clear g_20
  refine lv_aload_n hx hb dX4_parseHead_59 rfl (lv_at hl 0 rfl) ?_
  obtain ⟨μ_22, h_23, hf⟩ := b1_some hf
  refine cv_call S hK hP hD hZ hS hA (tX4_expectSemicolon l D d z o a K μ_21 _ h_23) (cwV 0 hts (lw_V q1842 q1844 qs63 q101 q1845) rfl rfl rfl (by decide +kernel) ⟨Nat.le_of_ble_eq_true rfl, Nat.le_of_ble_eq_true rfl⟩) (ci := 0) (q0 := 0) rfl rfl rfl hl.1 rfl (Nat.le_of_ble_eq_true rfl) ⟨Nat.le_of_ble_eq_true rfl, Nat.le_of_ble_eq_true rfl⟩ dX4_parseHead_60 ?_
  clear hP hD hS
  intro H locs hP hD hS
  clear h_23
  refine lv_aload_n hx hb dX4_parseHead_63 rfl (lv_at hl 0 rfl) ?_
  refine va_ldcS (tx := "transmitter") (q := z.1 3) hx hb S.2.2.2.1 (hZ.2.2.2.2.2.1 ("AntennaTunerModel", 164, "transmitter", 3) (List.mem_of_getElem? (i := 8) rfl)) dX4_parseHead_64 ?_
  obtain ⟨μ_24, h_25, hf⟩ := b1_some hf
  refine cv_call S hK hP hD hZ hS hA (tX4_expectKeyword l D d z o a K 3 μ_22 _ h_25 (by decide)) (cwV 1 hts (lw_V q1799 q1801 qs58 q101 q1802) rfl rfl rfl (by decide +kernel) ⟨Nat.le_of_ble_eq_true rfl, Nat.le_of_ble_eq_true rfl⟩) (ci := 0) (q0 := 0) rfl rfl rfl hl.1 rfl (Nat.le_of_ble_eq_true rfl) ⟨Nat.le_of_ble_eq_true rfl, Nat.le_of_ble_eq_true rfl⟩ dX4_parseHead_66 ?_
  clear hP hD hS
  intro H locs hP hD hS
  clear h_25
  refine lv_aload_n hx hb dX4_parseHead_69 rfl (lv_at hl 0 rfl) ?_
  refine m_get S hK hP 26 (by decide) q1626 rfl dX4_parseHead_70 ?_
  refine lv_iconst (v := 3) hx hb dX4_parseHead_73 (by decide) ?_
  refine lv_aload_n hx hb dX4_parseHead_74 rfl (lv_at hl 0 rfl) ?_
  refine lv_iconst (v := 1) hx hb dX4_parseHead_75 (by decide) ?_
  refine lv_sipush (v := 1500) hx hb dX4_parseHead_76 (by decide) ?_
  obtain ⟨r_28, μ_26, h_27, hf⟩ := b2_some hf
  refine ci_call S hK hP hD hZ hS hA (tX4_readIn l D d z o a K (1 : Int32) (1500 : Int32) μ_24 _ _ h_27) (cwV 2 hts (lw_V q1834 q1836 qs61 q101 q1837) rfl rfl rfl (by decide +kernel) ⟨Nat.le_of_ble_eq_true rfl, Nat.le_of_ble_eq_true rfl⟩) (ci := 0) (q0 := 0) rfl rfl rfl hl.1 rfl (Nat.le_of_ble_eq_true rfl) ⟨Nat.le_of_ble_eq_true rfl, Nat.le_of_ble_eq_true rfl⟩ dX4_parseHead_79 ?_
  clear hP hD hS
  intro H locs hP hD hS
  clear h_27
  obtain ⟨g_29, hf⟩ := ga_some hf
  refine m_ist S hK hP hD hS 26 9 rfl g_29 rfl dX4_parseHead_82 ?_
  clear hP hD hS
  intro μ_30 e_ H locs hP hD hS
  replace hf := nm_some hf μ_30 e_
  clear e_
  clear g_29
  refine lv_aload_n hx hb dX4_parseHead_83 rfl (lv_at hl 0 rfl) ?_
  refine m_get S hK hP 26 (by decide) q1626 rfl dX4_parseHead_84 ?_
  refine lv_iconst (v := 4) hx hb dX4_parseHead_87 (by decide) ?_
  refine lv_aload_n hx hb dX4_parseHead_88 rfl (lv_at hl 0 rfl) ?_
  refine lv_bipush (v := 100) hx hb dX4_parseHead_89 (by decide) ?_
  refine lv_sipush (v := 5000) hx hb dX4_parseHead_91 (by decide) ?_
  obtain ⟨r_33, μ_31, h_32, hf⟩ := b2_some hf
  refine ci_call S hK hP hD hZ hS hA (tX4_readIn l D d z o a K (100 : Int32) (5000 : Int32) μ_30 _ _ h_32) (cwV 2 hts (lw_V q1834 q1836 qs61 q101 q1837) rfl rfl rfl (by decide +kernel) ⟨Nat.le_of_ble_eq_true rfl, Nat.le_of_ble_eq_true rfl⟩) (ci := 0) (q0 := 0) rfl rfl rfl hl.1 rfl (Nat.le_of_ble_eq_true rfl) ⟨Nat.le_of_ble_eq_true rfl, Nat.le_of_ble_eq_true rfl⟩ dX4_parseHead_94 ?_
  clear hP hD hS
  intro H locs hP hD hS
  clear h_32
  obtain ⟨g_34, hf⟩ := ga_some hf
  refine m_ist S hK hP hD hS 26 9 rfl g_34 rfl dX4_parseHead_97 ?_
  clear hP hD hS
  intro μ_35 e_ H locs hP hD hS
  replace hf := nm_some hf μ_35 e_
  clear e_
  clear g_34
  refine lv_aload_n hx hb dX4_parseHead_98 rfl (lv_at hl 0 rfl) ?_
  refine m_get S hK hP 26 (by decide) q1626 rfl dX4_parseHead_99 ?_
  refine lv_iconst (v := 5) hx hb dX4_parseHead_102 (by decide) ?_
  refine lv_aload_n hx hb dX4_parseHead_103 rfl (lv_at hl 0 rfl) ?_
  refine lv_bipush (v := 101) hx hb dX4_parseHead_104 (by decide) ?_
  refine lv_sipush (v := 1000) hx hb dX4_parseHead_106 (by decide) ?_
  obtain ⟨r_38, μ_36, h_37, hf⟩ := b2_some hf
  refine ci_call S hK hP hD hZ hS hA (tX4_readIn l D d z o a K (101 : Int32) (1000 : Int32) μ_35 _ _ h_37) (cwV 2 hts (lw_V q1834 q1836 qs61 q101 q1837) rfl rfl rfl (by decide +kernel) ⟨Nat.le_of_ble_eq_true rfl, Nat.le_of_ble_eq_true rfl⟩) (ci := 0) (q0 := 0) rfl rfl rfl hl.1 rfl (Nat.le_of_ble_eq_true rfl) ⟨Nat.le_of_ble_eq_true rfl, Nat.le_of_ble_eq_true rfl⟩ dX4_parseHead_109 ?_
  clear hP hD hS
  intro H locs hP hD hS
  clear h_37
  obtain ⟨g_39, hf⟩ := ga_some hf
  refine m_ist S hK hP hD hS 26 9 rfl g_39 rfl dX4_parseHead_112 ?_
  clear hP hD hS
  intro μ_40 e_ H locs hP hD hS
  replace hf := nm_some hf μ_40 e_
  clear e_
  clear g_39
  refine lv_aload_n hx hb dX4_parseHead_113 rfl (lv_at hl 0 rfl) ?_
  obtain ⟨μ_41, h_42, hf⟩ := b1_some hf
  refine cv_call S hK hP hD hZ hS hA (tX4_expectSemicolon l D d z o a K μ_40 _ h_42) (cwV 0 hts (lw_V q1842 q1844 qs63 q101 q1845) rfl rfl rfl (by decide +kernel) ⟨Nat.le_of_ble_eq_true rfl, Nat.le_of_ble_eq_true rfl⟩) (ci := 0) (q0 := 0) rfl rfl rfl hl.1 rfl (Nat.le_of_ble_eq_true rfl) ⟨Nat.le_of_ble_eq_true rfl, Nat.le_of_ble_eq_true rfl⟩ dX4_parseHead_114 ?_
  clear hP hD hS
  intro H locs hP hD hS
  clear h_42
  exact hret _ _ _ _ _ hf dX4_parseHead_117 hP hD hS
def fX4_parsePoint_L64 (K : Nat) (t64_0 : Int32) (t64_1 : Int32) (t64_2 : Int32) (μ64 : MS) : Option MS :=
  b2 (fX4_readAbove K t64_2 t64_1 t64_0 μ64) fun r_12 μ_10 =>
  b2 (fX4_readIn K (1 : Int32) (3000 : Int32) μ_10) fun r_15 μ_13 =>
  b2 (fX4_readIn K (-3000 : Int32) (3000 : Int32) μ_13) fun r_18 μ_16 =>
  b1 (fX4_expectSemicolon K μ_16) fun μ_19 =>
  b2 (fX4_isFine K μ_19) fun r_23 μ_21 =>
  if r_23 = true then
    ga (ix (μ_21.1 27) 16) <|
    nm (sF μ_21 28 (upd (μ_21.2.2 28) (μ_21.1 27).toNatClampNeg r_12)) fun μ_26 =>
    ga (ix (μ_26.1 27) 16) <|
    nm (sF μ_26 29 (upd (μ_26.2.2 29) (μ_26.1 27).toNatClampNeg ((1000 : Int32) * r_15))) fun μ_28 =>
    ga (ix (μ_28.1 27) 16) <|
    nm (sF μ_28 30 (upd (μ_28.2.2 30) (μ_28.1 27).toNatClampNeg ((1000 : Int32) * r_18))) fun μ_30 =>
    nm (sI μ_30 27 ((μ_30.1 27) + (1 : Int32))) fun μ_31 =>
    some μ_31
  else
    some μ_21
def fX4_parsePoint_L31 (K : Nat) (μ31 : MS) : Option MS :=
  b1 (fX4_next K μ31) fun μ_6 =>
  if (μ_6.1 27) = 0 then
    fX4_parsePoint_L64 K (0 : Int32) (30000 : Int32) (1500 : Int32) μ_6
  else
    ga (ix ((μ_6.1 27) - (1 : Int32)) 16) <|
    fX4_parsePoint_L64 K (μ_6.2.2 28 ((μ_6.1 27) - (1 : Int32)).toNatClampNeg) (30000 : Int32) (1500 : Int32) μ_6
def fX4_parsePoint (K : Nat) (μ : MS) : Option MS :=
  b2 (fX4_isKeyword K 4 μ) fun r_3 μ_1 =>
  if r_3 = true then
    if (μ_1.1 27) = (16 : Int32) then
      b1 (fX4_fail K (4 : Int32) μ_1) fun μ_32 =>
      fX4_parsePoint_L31 K μ_32
    else
      fX4_parsePoint_L31 K μ_1
  else
    b1 (fX4_fail K (1 : Int32) μ_1) fun μ_34 =>
    fX4_parsePoint_L31 K μ_34
set_option maxHeartbeats 4000000 in
set_option maxRecDepth 100000 in
theorem tX4_parsePoint (l : Launch) (D : va_G) (d : Nat → ClassId) (z : ZT) (o : Nat) (a : Nat → Nat) (K : Nat) (μ : MS) (μ' : MS) (hf : fX4_parsePoint K μ = some μ') : CV l yX4_parsePoint (ws_ yX4_parsePoint cX4_parsePoint 4 (Option.none : Option Jvm.ClassFile.FieldType)) (rmc 6 0 0 134) D d z [.ref o] (MP d o a μ) (MP d o a μ') := by
  refine mV_of rfl (by decide) (Nat.le_of_ble_eq_true rfl) ?_
  intro p e s m args below meth c A Q ls S hK hP hD hZ hS hA hl hret
  have hx := S.1
  have hb := S.2.1
  have hts := S.2.2.2.2
  have hl : lv_has ls 4 [(0, .ref o)] := hl
  have L64 : ∀ (t64_0 : Int32) (t64_1 : Int32) (t64_2 : Int32) (μ64 : MS) (H : Heap) (locs : List Loc) (ls : Array Slot), fX4_parsePoint_L64 K t64_0 t64_1 t64_2 μ64 = some μ' → va_P D CL (MP d o a μ64) H → va_D A (MP d o a μ64) → va_S A s.heap H locs → lv_has ls 4 [(0, .ref o)] → W p l e (rmc 6 0 0 134) s m args below meth c H locs 0 0 Q (F0 m 64 ls [.int t64_0, .int t64_1, .int t64_2, .ref o]) := by
    intro t64_0 t64_1 t64_2 μ64 H locs ls hf hP hD hS hl
    unfold fX4_parsePoint_L64 at hf
    obtain ⟨r_12, μ_10, h_11, hf⟩ := b2_some hf
    refine ci_call S hK hP hD hZ hS hA (tX4_readAbove l D d z o a K t64_2 t64_1 t64_0 μ64 _ _ h_11) (cwV 3 hts (lw_V q1838 q1840 qs62 q101 q1841) rfl rfl rfl (by decide +kernel) ⟨Nat.le_of_ble_eq_true rfl, Nat.le_of_ble_eq_true rfl⟩) (ci := 0) (q0 := 0) rfl rfl rfl hl.1 rfl (Nat.le_of_ble_eq_true rfl) ⟨Nat.le_of_ble_eq_true rfl, Nat.le_of_ble_eq_true rfl⟩ dX4_parsePoint_64 ?_
    clear hP hD hS
    intro H locs hP hD hS
    clear h_11
    refine lv_istore_n (lv' := [(1, .int r_12), (0, .ref o)]) hx hb dX4_parsePoint_67 rfl hl (by decide) rfl (fun ls hl => ?_)
    refine lv_aload_n hx hb dX4_parsePoint_68 rfl (lv_at hl 1 rfl) ?_
    refine lv_iconst (v := 1) hx hb dX4_parsePoint_69 (by decide) ?_
    refine lv_sipush (v := 3000) hx hb dX4_parsePoint_70 (by decide) ?_
    obtain ⟨r_15, μ_13, h_14, hf⟩ := b2_some hf
    refine ci_call S hK hP hD hZ hS hA (tX4_readIn l D d z o a K (1 : Int32) (3000 : Int32) μ_10 _ _ h_14) (cwV 2 hts (lw_V q1834 q1836 qs61 q101 q1837) rfl rfl rfl (by decide +kernel) ⟨Nat.le_of_ble_eq_true rfl, Nat.le_of_ble_eq_true rfl⟩) (ci := 0) (q0 := 0) rfl rfl rfl hl.1 rfl (Nat.le_of_ble_eq_true rfl) ⟨Nat.le_of_ble_eq_true rfl, Nat.le_of_ble_eq_true rfl⟩ dX4_parsePoint_73 ?_
    clear hP hD hS
    intro H locs hP hD hS
    clear h_14
    refine lv_istore_n (lv' := [(2, .int r_15), (1, .int r_12), (0, .ref o)]) hx hb dX4_parsePoint_76 rfl hl (by decide) rfl (fun ls hl => ?_)
    refine lv_aload_n hx hb dX4_parsePoint_77 rfl (lv_at hl 2 rfl) ?_
    refine lv_sipush (v := -3000) hx hb dX4_parsePoint_78 (by decide) ?_
    refine lv_sipush (v := 3000) hx hb dX4_parsePoint_81 (by decide) ?_
    obtain ⟨r_18, μ_16, h_17, hf⟩ := b2_some hf
    refine ci_call S hK hP hD hZ hS hA (tX4_readIn l D d z o a K (-3000 : Int32) (3000 : Int32) μ_13 _ _ h_17) (cwV 2 hts (lw_V q1834 q1836 qs61 q101 q1837) rfl rfl rfl (by decide +kernel) ⟨Nat.le_of_ble_eq_true rfl, Nat.le_of_ble_eq_true rfl⟩) (ci := 0) (q0 := 0) rfl rfl rfl hl.1 rfl (Nat.le_of_ble_eq_true rfl) ⟨Nat.le_of_ble_eq_true rfl, Nat.le_of_ble_eq_true rfl⟩ dX4_parsePoint_84 ?_
    clear hP hD hS
    intro H locs hP hD hS
    clear h_17
    refine lv_istore_n (lv' := [(3, .int r_18), (2, .int r_15), (1, .int r_12), (0, .ref o)]) hx hb dX4_parsePoint_87 rfl hl (by decide) rfl (fun ls hl => ?_)
    refine lv_aload_n hx hb dX4_parsePoint_88 rfl (lv_at hl 3 rfl) ?_
    obtain ⟨μ_19, h_20, hf⟩ := b1_some hf
    refine cv_call S hK hP hD hZ hS hA (tX4_expectSemicolon l D d z o a K μ_16 _ h_20) (cwV 0 hts (lw_V q1842 q1844 qs63 q101 q1845) rfl rfl rfl (by decide +kernel) ⟨Nat.le_of_ble_eq_true rfl, Nat.le_of_ble_eq_true rfl⟩) (ci := 0) (q0 := 0) rfl rfl rfl hl.1 rfl (Nat.le_of_ble_eq_true rfl) ⟨Nat.le_of_ble_eq_true rfl, Nat.le_of_ble_eq_true rfl⟩ dX4_parsePoint_89 ?_
    clear hP hD hS
    intro H locs hP hD hS
    clear h_20
    refine lv_aload_n hx hb dX4_parsePoint_92 rfl (lv_at hl 3 rfl) ?_
    obtain ⟨r_23, μ_21, h_22, hf⟩ := b2_some hf
    refine ci_call S hK hP hD hZ hS hA (tX4_isFine l D d z o a K μ_19 _ _ h_22) (cwV 0 hts (lw_V q1769 q1771 qs52 q101 q1772) rfl rfl rfl (by decide +kernel) ⟨Nat.le_of_ble_eq_true rfl, Nat.le_of_ble_eq_true rfl⟩) (ci := 0) (q0 := 0) rfl rfl rfl hl.1 rfl (Nat.le_of_ble_eq_true rfl) ⟨Nat.le_of_ble_eq_true rfl, Nat.le_of_ble_eq_true rfl⟩ dX4_parsePoint_93 ?_
    clear hP hD hS
    intro H locs hP hD hS
    clear h_22
    refine lv_if_eq (tgt := 147) hx hb dX4_parsePoint_96 (by decide) (fun c_24 => ?_) (fun c_24 => ?_)
    · replace hf := it_f hf (bi_e0 c_24)
      clear c_24
      exact hret _ _ _ _ _ hf dX4_parsePoint_147 hP hD hS
    · replace hf := it_t hf (bi_n0 c_24)
      clear c_24
      refine lv_aload_n hx hb dX4_parsePoint_99 rfl (lv_at hl 3 rfl) ?_
      refine m_get S hK hP 28 (by decide) q1628 rfl dX4_parsePoint_100 ?_
      refine lv_aload_n hx hb dX4_parsePoint_103 rfl (lv_at hl 3 rfl) ?_
      refine m_get S hK hP 27 (by decide) q1627 rfl dX4_parsePoint_104 ?_
      refine lv_iload_n hx hb dX4_parsePoint_107 rfl (lv_at hl 2 rfl) ?_
      obtain ⟨g_25, hf⟩ := ga_some hf
      refine m_ist S hK hP hD hS 28 10 rfl g_25 rfl dX4_parsePoint_108 ?_
      clear hP hD hS
      intro μ_26 e_ H locs hP hD hS
      replace hf := nm_some hf μ_26 e_
      clear e_
      clear g_25
      refine lv_aload_n hx hb dX4_parsePoint_109 rfl (lv_at hl 3 rfl) ?_
      refine m_get S hK hP 29 (by decide) q1629 rfl dX4_parsePoint_110 ?_
      refine lv_aload_n hx hb dX4_parsePoint_113 rfl (lv_at hl 3 rfl) ?_
      refine m_get S hK hP 27 (by decide) q1627 rfl dX4_parsePoint_114 ?_
      refine lv_sipush (v := 1000) hx hb dX4_parsePoint_117 (by decide) ?_
      refine lv_iload_n hx hb dX4_parsePoint_120 rfl (lv_at hl 1 rfl) ?_
      refine lv_imul hx hb dX4_parsePoint_121 ?_
      obtain ⟨g_27, hf⟩ := ga_some hf
      refine m_ist S hK hP hD hS 29 11 rfl g_27 rfl dX4_parsePoint_122 ?_
      clear hP hD hS
      intro μ_28 e_ H locs hP hD hS
      replace hf := nm_some hf μ_28 e_
      clear e_
      clear g_27
      refine lv_aload_n hx hb dX4_parsePoint_123 rfl (lv_at hl 3 rfl) ?_
      refine m_get S hK hP 30 (by decide) q1630 rfl dX4_parsePoint_124 ?_
      refine lv_aload_n hx hb dX4_parsePoint_127 rfl (lv_at hl 3 rfl) ?_
      refine m_get S hK hP 27 (by decide) q1627 rfl dX4_parsePoint_128 ?_
      refine lv_sipush (v := 1000) hx hb dX4_parsePoint_131 (by decide) ?_
      refine lv_iload_n hx hb dX4_parsePoint_134 rfl (lv_at hl 0 rfl) ?_
      refine lv_imul hx hb dX4_parsePoint_135 ?_
      obtain ⟨g_29, hf⟩ := ga_some hf
      refine m_ist S hK hP hD hS 30 12 rfl g_29 rfl dX4_parsePoint_136 ?_
      clear hP hD hS
      intro μ_30 e_ H locs hP hD hS
      replace hf := nm_some hf μ_30 e_
      clear e_
      clear g_29
      refine lv_aload_n hx hb dX4_parsePoint_137 rfl (lv_at hl 3 rfl) ?_
      refine lv_dup hx hb dX4_parsePoint_138 rfl ?_
      refine m_get S hK hP 27 (by decide) q1627 rfl dX4_parsePoint_139 ?_
      refine lv_iconst (v := 1) hx hb dX4_parsePoint_142 (by decide) ?_
      refine lv_iadd hx hb dX4_parsePoint_143 ?_
      refine m_putI S hK hP hD hS 27 (by decide) q1627 rfl rfl rfl rfl rfl dX4_parsePoint_144 ?_
      clear hP hD hS
      intro μ_31 e_ H locs hP hD hS
      replace hf := nm_some hf μ_31 e_
      clear e_
      exact hret _ _ _ _ _ hf dX4_parsePoint_147 hP hD hS
  have L31 : ∀ (μ31 : MS) (H : Heap) (locs : List Loc) (ls : Array Slot), fX4_parsePoint_L31 K μ31 = some μ' → va_P D CL (MP d o a μ31) H → va_D A (MP d o a μ31) → va_S A s.heap H locs → lv_has ls 4 [(0, .ref o)] → W p l e (rmc 6 0 0 134) s m args below meth c H locs 0 0 Q (F0 m 31 ls []) := by
    intro μ31 H locs ls hf hP hD hS hl
    unfold fX4_parsePoint_L31 at hf
    refine lv_aload_n hx hb dX4_parsePoint_31 rfl (lv_at hl 0 rfl) ?_
    obtain ⟨μ_6, h_7, hf⟩ := b1_some hf
    refine cv_call S hK hP hD hZ hS hA (tX4_next l D d z o a K μ31 _ h_7) (cwV 0 hts (lw_V q1765 q1767 qs51 q101 q1768) rfl rfl rfl (by decide +kernel) ⟨Nat.le_of_ble_eq_true rfl, Nat.le_of_ble_eq_true rfl⟩) (ci := 0) (q0 := 0) rfl rfl rfl hl.1 rfl (Nat.le_of_ble_eq_true rfl) ⟨Nat.le_of_ble_eq_true rfl, Nat.le_of_ble_eq_true rfl⟩ dX4_parsePoint_32 ?_
    clear hP hD hS
    intro H locs hP hD hS
    clear h_7
    refine lv_aload_n hx hb dX4_parsePoint_35 rfl (lv_at hl 0 rfl) ?_
    refine lv_sipush (v := 1500) hx hb dX4_parsePoint_36 (by decide) ?_
    refine lv_sipush (v := 30000) hx hb dX4_parsePoint_39 (by decide) ?_
    refine lv_aload_n hx hb dX4_parsePoint_42 rfl (lv_at hl 0 rfl) ?_
    refine m_get S hK hP 27 (by decide) q1627 rfl dX4_parsePoint_43 ?_
    refine lv_if_ne (tgt := 53) hx hb dX4_parsePoint_46 (by decide) (fun c_8 => ?_) (fun c_8 => ?_)
    · replace hf := it_f hf c_8
      clear c_8
      refine lv_aload_n hx hb dX4_parsePoint_53 rfl (lv_at hl 0 rfl) ?_
      refine m_get S hK hP 28 (by decide) q1628 rfl dX4_parsePoint_54 ?_
      refine lv_aload_n hx hb dX4_parsePoint_57 rfl (lv_at hl 0 rfl) ?_
      refine m_get S hK hP 27 (by decide) q1627 rfl dX4_parsePoint_58 ?_
      refine lv_iconst (v := 1) hx hb dX4_parsePoint_61 (by decide) ?_
      refine lv_isub hx hb dX4_parsePoint_62 ?_
      obtain ⟨g_9, hf⟩ := ga_some hf
      refine m_ild S hK hP 28 10 rfl g_9 dX4_parsePoint_63 ?_
      clear g_9
      exact L64 (μ_6.2.2 28 ((μ_6.1 27) - (1 : Int32)).toNatClampNeg) (30000 : Int32) (1500 : Int32) μ_6 _ _ _ hf hP hD hS (lv_sub hl [0] rfl)
    · replace hf := it_t hf c_8
      clear c_8
      refine lv_iconst (v := 0) hx hb dX4_parsePoint_49 (by decide) ?_
      refine lv_goto (tgt := 64) hx hb dX4_parsePoint_50 (by decide) ?_
      exact L64 (0 : Int32) (30000 : Int32) (1500 : Int32) μ_6 _ _ _ hf hP hD hS (lv_sub hl [0] rfl)
  unfold fX4_parsePoint at hf
  refine lv_aload_n hx hb dX4_parsePoint_0 rfl (lv_at hl 0 rfl) ?_
  refine va_ldcS (tx := "point") (q := z.1 4) hx hb S.2.2.2.1 (hZ.2.2.2.2.2.1 ("AntennaTunerModel", 166, "point", 4) (List.mem_of_getElem? (i := 9) rfl)) dX4_parsePoint_1 ?_
  obtain ⟨r_3, μ_1, h_2, hf⟩ := b2_some hf
  refine ci_call S hK hP hD hZ hS hA (tX4_isKeyword l D d z o a K 4 μ _ _ h_2 (by decide)) (cwV 1 hts (lw_V q1803 q1805 qs59 q101 q1806) rfl rfl rfl (by decide +kernel) ⟨Nat.le_of_ble_eq_true rfl, Nat.le_of_ble_eq_true rfl⟩) (ci := 0) (q0 := 0) rfl rfl rfl hl.1 rfl (Nat.le_of_ble_eq_true rfl) ⟨Nat.le_of_ble_eq_true rfl, Nat.le_of_ble_eq_true rfl⟩ dX4_parsePoint_3 ?_
  clear hP hD hS
  intro H locs hP hD hS
  clear h_2
  refine lv_if_ne (tgt := 17) hx hb dX4_parsePoint_6 (by decide) (fun c_4 => ?_) (fun c_4 => ?_)
  · replace hf := it_t hf (bi_n0 c_4)
    clear c_4
    refine lv_aload_n hx hb dX4_parsePoint_17 rfl (lv_at hl 0 rfl) ?_
    refine m_get S hK hP 27 (by decide) q1627 rfl dX4_parsePoint_18 ?_
    refine lv_bipush (v := 16) hx hb dX4_parsePoint_21 (by decide) ?_
    refine lv_icmp_ne (tgt := 31) hx hb dX4_parsePoint_23 (by decide) (fun c_5 => ?_) (fun c_5 => ?_)
    · replace hf := it_f hf c_5
      clear c_5
      exact L31 μ_1 _ _ _ hf hP hD hS (lv_sub hl [0] rfl)
    · replace hf := it_t hf c_5
      clear c_5
      refine lv_aload_n hx hb dX4_parsePoint_26 rfl (lv_at hl 0 rfl) ?_
      refine lv_iconst (v := 4) hx hb dX4_parsePoint_27 (by decide) ?_
      obtain ⟨μ_32, h_33, hf⟩ := b1_some hf
      refine cv_call S hK hP hD hZ hS hA (tX4_fail l D d z o a K (4 : Int32) μ_1 _ h_33) (cwV 1 hts (lw_V q1830 q1832 qs60 q101 q1833) rfl rfl rfl (by decide +kernel) ⟨Nat.le_of_ble_eq_true rfl, Nat.le_of_ble_eq_true rfl⟩) (ci := 0) (q0 := 0) rfl rfl rfl hl.1 rfl (Nat.le_of_ble_eq_true rfl) ⟨Nat.le_of_ble_eq_true rfl, Nat.le_of_ble_eq_true rfl⟩ dX4_parsePoint_28 ?_
      clear hP hD hS
      intro H locs hP hD hS
      clear h_33
      exact L31 μ_32 _ _ _ hf hP hD hS (lv_sub hl [0] rfl)
  · replace hf := it_f hf (bi_e0 c_4)
    clear c_4
    refine lv_aload_n hx hb dX4_parsePoint_9 rfl (lv_at hl 0 rfl) ?_
    refine lv_iconst (v := 1) hx hb dX4_parsePoint_10 (by decide) ?_
    obtain ⟨μ_34, h_35, hf⟩ := b1_some hf
    refine cv_call S hK hP hD hZ hS hA (tX4_fail l D d z o a K (1 : Int32) μ_1 _ h_35) (cwV 1 hts (lw_V q1830 q1832 qs60 q101 q1833) rfl rfl rfl (by decide +kernel) ⟨Nat.le_of_ble_eq_true rfl, Nat.le_of_ble_eq_true rfl⟩) (ci := 0) (q0 := 0) rfl rfl rfl hl.1 rfl (Nat.le_of_ble_eq_true rfl) ⟨Nat.le_of_ble_eq_true rfl, Nat.le_of_ble_eq_true rfl⟩ dX4_parsePoint_11 ?_
    clear hP hD hS
    intro H locs hP hD hS
    clear h_35
    refine lv_goto (tgt := 31) hx hb dX4_parsePoint_14 (by decide) ?_
    exact L31 μ_34 _ _ _ hf hP hD hS (lv_sub hl [0] rfl)
def fX4_parseBand_L31 (K : Nat) (μ31 : MS) : Option MS :=
  b1 (fX4_next K μ31) fun μ_6 =>
  b2 (fX4_readIn K (1500 : Int32) (30000 : Int32) μ_6) fun r_10 μ_8 =>
  b2 (fX4_readAbove K (1500 : Int32) (30000 : Int32) (r_10 - (1 : Int32)) μ_8) fun r_13 μ_11 =>
  b1 (fX4_expectSemicolon K μ_11) fun μ_14 =>
  b2 (fX4_isFine K μ_14) fun r_18 μ_16 =>
  if r_18 = true then
    ga (ix (μ_16.1 31) 8) <|
    nm (sF μ_16 32 (upd (μ_16.2.2 32) (μ_16.1 31).toNatClampNeg r_10)) fun μ_21 =>
    ga (ix (μ_21.1 31) 8) <|
    nm (sF μ_21 33 (upd (μ_21.2.2 33) (μ_21.1 31).toNatClampNeg r_13)) fun μ_23 =>
    nm (sI μ_23 31 ((μ_23.1 31) + (1 : Int32))) fun μ_24 =>
    some μ_24
  else
    some μ_16
def fX4_parseBand (K : Nat) (μ : MS) : Option MS :=
  b2 (fX4_isKeyword K 5 μ) fun r_3 μ_1 =>
  if r_3 = true then
    if (μ_1.1 31) = (8 : Int32) then
      b1 (fX4_fail K (4 : Int32) μ_1) fun μ_25 =>
      fX4_parseBand_L31 K μ_25
    else
      fX4_parseBand_L31 K μ_1
  else
    b1 (fX4_fail K (1 : Int32) μ_1) fun μ_27 =>
    fX4_parseBand_L31 K μ_27
set_option maxHeartbeats 4000000 in
set_option maxRecDepth 100000 in
theorem tX4_parseBand (l : Launch) (D : va_G) (d : Nat → ClassId) (z : ZT) (o : Nat) (a : Nat → Nat) (K : Nat) (μ : MS) (μ' : MS) (hf : fX4_parseBand K μ = some μ') : CV l yX4_parseBand (ws_ yX4_parseBand cX4_parseBand 3 (Option.none : Option Jvm.ClassFile.FieldType)) (rmc 6 0 0 134) D d z [.ref o] (MP d o a μ) (MP d o a μ') := by
  refine mV_of rfl (by decide) (Nat.le_of_ble_eq_true rfl) ?_
  intro p e s m args below meth c A Q ls S hK hP hD hZ hS hA hl hret
  have hx := S.1
  have hb := S.2.1
  have hts := S.2.2.2.2
  have hl : lv_has ls 3 [(0, .ref o)] := hl
  have L31 : ∀ (μ31 : MS) (H : Heap) (locs : List Loc) (ls : Array Slot), fX4_parseBand_L31 K μ31 = some μ' → va_P D CL (MP d o a μ31) H → va_D A (MP d o a μ31) → va_S A s.heap H locs → lv_has ls 3 [(0, .ref o)] → W p l e (rmc 6 0 0 134) s m args below meth c H locs 0 0 Q (F0 m 31 ls []) := by
    intro μ31 H locs ls hf hP hD hS hl
    unfold fX4_parseBand_L31 at hf
    refine lv_aload_n hx hb dX4_parseBand_31 rfl (lv_at hl 0 rfl) ?_
    obtain ⟨μ_6, h_7, hf⟩ := b1_some hf
    refine cv_call S hK hP hD hZ hS hA (tX4_next l D d z o a K μ31 _ h_7) (cwV 0 hts (lw_V q1765 q1767 qs51 q101 q1768) rfl rfl rfl (by decide +kernel) ⟨Nat.le_of_ble_eq_true rfl, Nat.le_of_ble_eq_true rfl⟩) (ci := 0) (q0 := 0) rfl rfl rfl hl.1 rfl (Nat.le_of_ble_eq_true rfl) ⟨Nat.le_of_ble_eq_true rfl, Nat.le_of_ble_eq_true rfl⟩ dX4_parseBand_32 ?_
    clear hP hD hS
    intro H locs hP hD hS
    clear h_7
    refine lv_aload_n hx hb dX4_parseBand_35 rfl (lv_at hl 0 rfl) ?_
    refine lv_sipush (v := 1500) hx hb dX4_parseBand_36 (by decide) ?_
    refine lv_sipush (v := 30000) hx hb dX4_parseBand_39 (by decide) ?_
    obtain ⟨r_10, μ_8, h_9, hf⟩ := b2_some hf
    refine ci_call S hK hP hD hZ hS hA (tX4_readIn l D d z o a K (1500 : Int32) (30000 : Int32) μ_6 _ _ h_9) (cwV 2 hts (lw_V q1834 q1836 qs61 q101 q1837) rfl rfl rfl (by decide +kernel) ⟨Nat.le_of_ble_eq_true rfl, Nat.le_of_ble_eq_true rfl⟩) (ci := 0) (q0 := 0) rfl rfl rfl hl.1 rfl (Nat.le_of_ble_eq_true rfl) ⟨Nat.le_of_ble_eq_true rfl, Nat.le_of_ble_eq_true rfl⟩ dX4_parseBand_42 ?_
    clear hP hD hS
    intro H locs hP hD hS
    clear h_9
    refine lv_istore_n (lv' := [(1, .int r_10), (0, .ref o)]) hx hb dX4_parseBand_45 rfl hl (by decide) rfl (fun ls hl => ?_)
    refine lv_aload_n hx hb dX4_parseBand_46 rfl (lv_at hl 1 rfl) ?_
    refine lv_sipush (v := 1500) hx hb dX4_parseBand_47 (by decide) ?_
    refine lv_sipush (v := 30000) hx hb dX4_parseBand_50 (by decide) ?_
    refine lv_iload_n hx hb dX4_parseBand_53 rfl (lv_at hl 0 rfl) ?_
    refine lv_iconst (v := 1) hx hb dX4_parseBand_54 (by decide) ?_
    refine lv_isub hx hb dX4_parseBand_55 ?_
    obtain ⟨r_13, μ_11, h_12, hf⟩ := b2_some hf
    refine ci_call S hK hP hD hZ hS hA (tX4_readAbove l D d z o a K (1500 : Int32) (30000 : Int32) (r_10 - (1 : Int32)) μ_8 _ _ h_12) (cwV 3 hts (lw_V q1838 q1840 qs62 q101 q1841) rfl rfl rfl (by decide +kernel) ⟨Nat.le_of_ble_eq_true rfl, Nat.le_of_ble_eq_true rfl⟩) (ci := 0) (q0 := 0) rfl rfl rfl hl.1 rfl (Nat.le_of_ble_eq_true rfl) ⟨Nat.le_of_ble_eq_true rfl, Nat.le_of_ble_eq_true rfl⟩ dX4_parseBand_56 ?_
    clear hP hD hS
    intro H locs hP hD hS
    clear h_12
    refine lv_istore_n (lv' := [(2, .int r_13), (1, .int r_10), (0, .ref o)]) hx hb dX4_parseBand_59 rfl hl (by decide) rfl (fun ls hl => ?_)
    refine lv_aload_n hx hb dX4_parseBand_60 rfl (lv_at hl 2 rfl) ?_
    obtain ⟨μ_14, h_15, hf⟩ := b1_some hf
    refine cv_call S hK hP hD hZ hS hA (tX4_expectSemicolon l D d z o a K μ_11 _ h_15) (cwV 0 hts (lw_V q1842 q1844 qs63 q101 q1845) rfl rfl rfl (by decide +kernel) ⟨Nat.le_of_ble_eq_true rfl, Nat.le_of_ble_eq_true rfl⟩) (ci := 0) (q0 := 0) rfl rfl rfl hl.1 rfl (Nat.le_of_ble_eq_true rfl) ⟨Nat.le_of_ble_eq_true rfl, Nat.le_of_ble_eq_true rfl⟩ dX4_parseBand_61 ?_
    clear hP hD hS
    intro H locs hP hD hS
    clear h_15
    refine lv_aload_n hx hb dX4_parseBand_64 rfl (lv_at hl 2 rfl) ?_
    obtain ⟨r_18, μ_16, h_17, hf⟩ := b2_some hf
    refine ci_call S hK hP hD hZ hS hA (tX4_isFine l D d z o a K μ_14 _ _ h_17) (cwV 0 hts (lw_V q1769 q1771 qs52 q101 q1772) rfl rfl rfl (by decide +kernel) ⟨Nat.le_of_ble_eq_true rfl, Nat.le_of_ble_eq_true rfl⟩) (ci := 0) (q0 := 0) rfl rfl rfl hl.1 rfl (Nat.le_of_ble_eq_true rfl) ⟨Nat.le_of_ble_eq_true rfl, Nat.le_of_ble_eq_true rfl⟩ dX4_parseBand_65 ?_
    clear hP hD hS
    intro H locs hP hD hS
    clear h_17
    refine lv_if_eq (tgt := 101) hx hb dX4_parseBand_68 (by decide) (fun c_19 => ?_) (fun c_19 => ?_)
    · replace hf := it_f hf (bi_e0 c_19)
      clear c_19
      exact hret _ _ _ _ _ hf dX4_parseBand_101 hP hD hS
    · replace hf := it_t hf (bi_n0 c_19)
      clear c_19
      refine lv_aload_n hx hb dX4_parseBand_71 rfl (lv_at hl 2 rfl) ?_
      refine m_get S hK hP 32 (by decide) q1632 rfl dX4_parseBand_72 ?_
      refine lv_aload_n hx hb dX4_parseBand_75 rfl (lv_at hl 2 rfl) ?_
      refine m_get S hK hP 31 (by decide) q1631 rfl dX4_parseBand_76 ?_
      refine lv_iload_n hx hb dX4_parseBand_79 rfl (lv_at hl 1 rfl) ?_
      obtain ⟨g_20, hf⟩ := ga_some hf
      refine m_ist S hK hP hD hS 32 13 rfl g_20 rfl dX4_parseBand_80 ?_
      clear hP hD hS
      intro μ_21 e_ H locs hP hD hS
      replace hf := nm_some hf μ_21 e_
      clear e_
      clear g_20
      refine lv_aload_n hx hb dX4_parseBand_81 rfl (lv_at hl 2 rfl) ?_
      refine m_get S hK hP 33 (by decide) q1633 rfl dX4_parseBand_82 ?_
      refine lv_aload_n hx hb dX4_parseBand_85 rfl (lv_at hl 2 rfl) ?_
      refine m_get S hK hP 31 (by decide) q1631 rfl dX4_parseBand_86 ?_
      refine lv_iload_n hx hb dX4_parseBand_89 rfl (lv_at hl 0 rfl) ?_
      obtain ⟨g_22, hf⟩ := ga_some hf
      refine m_ist S hK hP hD hS 33 14 rfl g_22 rfl dX4_parseBand_90 ?_
      clear hP hD hS
      intro μ_23 e_ H locs hP hD hS
      replace hf := nm_some hf μ_23 e_
      clear e_
      clear g_22
      refine lv_aload_n hx hb dX4_parseBand_91 rfl (lv_at hl 2 rfl) ?_
      refine lv_dup hx hb dX4_parseBand_92 rfl ?_
      refine m_get S hK hP 31 (by decide) q1631 rfl dX4_parseBand_93 ?_
      refine lv_iconst (v := 1) hx hb dX4_parseBand_96 (by decide) ?_
      refine lv_iadd hx hb dX4_parseBand_97 ?_
      refine m_putI S hK hP hD hS 31 (by decide) q1631 rfl rfl rfl rfl rfl dX4_parseBand_98 ?_
      clear hP hD hS
      intro μ_24 e_ H locs hP hD hS
      replace hf := nm_some hf μ_24 e_
      clear e_
      exact hret _ _ _ _ _ hf dX4_parseBand_101 hP hD hS
  unfold fX4_parseBand at hf
  refine lv_aload_n hx hb dX4_parseBand_0 rfl (lv_at hl 0 rfl) ?_
  refine va_ldcS (tx := "band") (q := z.1 5) hx hb S.2.2.2.1 (hZ.2.2.2.2.2.1 ("AntennaTunerModel", 171, "band", 5) (List.mem_of_getElem? (i := 10) rfl)) dX4_parseBand_1 ?_
  obtain ⟨r_3, μ_1, h_2, hf⟩ := b2_some hf
  refine ci_call S hK hP hD hZ hS hA (tX4_isKeyword l D d z o a K 5 μ _ _ h_2 (by decide)) (cwV 1 hts (lw_V q1803 q1805 qs59 q101 q1806) rfl rfl rfl (by decide +kernel) ⟨Nat.le_of_ble_eq_true rfl, Nat.le_of_ble_eq_true rfl⟩) (ci := 0) (q0 := 0) rfl rfl rfl hl.1 rfl (Nat.le_of_ble_eq_true rfl) ⟨Nat.le_of_ble_eq_true rfl, Nat.le_of_ble_eq_true rfl⟩ dX4_parseBand_3 ?_
  clear hP hD hS
  intro H locs hP hD hS
  clear h_2
  refine lv_if_ne (tgt := 17) hx hb dX4_parseBand_6 (by decide) (fun c_4 => ?_) (fun c_4 => ?_)
  · replace hf := it_t hf (bi_n0 c_4)
    clear c_4
    refine lv_aload_n hx hb dX4_parseBand_17 rfl (lv_at hl 0 rfl) ?_
    refine m_get S hK hP 31 (by decide) q1631 rfl dX4_parseBand_18 ?_
    refine lv_bipush (v := 8) hx hb dX4_parseBand_21 (by decide) ?_
    refine lv_icmp_ne (tgt := 31) hx hb dX4_parseBand_23 (by decide) (fun c_5 => ?_) (fun c_5 => ?_)
    · replace hf := it_f hf c_5
      clear c_5
      exact L31 μ_1 _ _ _ hf hP hD hS (lv_sub hl [0] rfl)
    · replace hf := it_t hf c_5
      clear c_5
      refine lv_aload_n hx hb dX4_parseBand_26 rfl (lv_at hl 0 rfl) ?_
      refine lv_iconst (v := 4) hx hb dX4_parseBand_27 (by decide) ?_
      obtain ⟨μ_25, h_26, hf⟩ := b1_some hf
      refine cv_call S hK hP hD hZ hS hA (tX4_fail l D d z o a K (4 : Int32) μ_1 _ h_26) (cwV 1 hts (lw_V q1830 q1832 qs60 q101 q1833) rfl rfl rfl (by decide +kernel) ⟨Nat.le_of_ble_eq_true rfl, Nat.le_of_ble_eq_true rfl⟩) (ci := 0) (q0 := 0) rfl rfl rfl hl.1 rfl (Nat.le_of_ble_eq_true rfl) ⟨Nat.le_of_ble_eq_true rfl, Nat.le_of_ble_eq_true rfl⟩ dX4_parseBand_28 ?_
      clear hP hD hS
      intro H locs hP hD hS
      clear h_26
      exact L31 μ_25 _ _ _ hf hP hD hS (lv_sub hl [0] rfl)
  · replace hf := it_f hf (bi_e0 c_4)
    clear c_4
    refine lv_aload_n hx hb dX4_parseBand_9 rfl (lv_at hl 0 rfl) ?_
    refine lv_iconst (v := 1) hx hb dX4_parseBand_10 (by decide) ?_
    obtain ⟨μ_27, h_28, hf⟩ := b1_some hf
    refine cv_call S hK hP hD hZ hS hA (tX4_fail l D d z o a K (1 : Int32) μ_1 _ h_28) (cwV 1 hts (lw_V q1830 q1832 qs60 q101 q1833) rfl rfl rfl (by decide +kernel) ⟨Nat.le_of_ble_eq_true rfl, Nat.le_of_ble_eq_true rfl⟩) (ci := 0) (q0 := 0) rfl rfl rfl hl.1 rfl (Nat.le_of_ble_eq_true rfl) ⟨Nat.le_of_ble_eq_true rfl, Nat.le_of_ble_eq_true rfl⟩ dX4_parseBand_11 ?_
    clear hP hD hS
    intro H locs hP hD hS
    clear h_28
    refine lv_goto (tgt := 31) hx hb dX4_parseBand_14 (by decide) ?_
    exact L31 μ_27 _ _ _ hf hP hD hS (lv_sub hl [0] rfl)
def fX4_parse_L38 (K : Nat) : Nat → MS → Option MS
  | 0, _ => none
  | n + 1, μ38 =>
    b2 (fX4_isFine K μ38) fun r_15 μ_13 =>
    if r_15 = true then
      if (μ_13.1 22) = 0 then
        some μ_13
      else
        b1 (fX4_parseBand K μ_13) fun μ_18 =>
        fX4_parse_L38 K n μ_18
    else
      some μ_13
def fX4_parse_L18 (K : Nat) : Nat → MS → Option MS
  | 0, _ => none
  | n + 1, μ18 =>
    b1 (fX4_parsePoint K μ18) fun μ_7 =>
    b2 (fX4_isFine K μ_7) fun r_11 μ_9 =>
    if r_11 = true then
      b2 (fX4_isKeyword K 4 μ_9) fun r_22 μ_20 =>
      if r_22 = true then
        fX4_parse_L18 K n μ_20
      else
        fX4_parse_L38 K K μ_20
    else
      fX4_parse_L38 K K μ_9
def fX4_parse (K : Nat) (μ : MS) : Option MS :=
  nm (sI μ 27 (0 : Int32)) fun μ_1 =>
  nm (sI μ_1 31 (0 : Int32)) fun μ_2 =>
  b1 (fX4_next K μ_2) fun μ_3 =>
  b1 (fX4_parseHead K μ_3) fun μ_5 =>
  fX4_parse_L18 K K μ_5
set_option maxHeartbeats 4000000 in
set_option maxRecDepth 100000 in
theorem tX4_parse (l : Launch) (D : va_G) (d : Nat → ClassId) (z : ZT) (o : Nat) (a : Nat → Nat) (K : Nat) (μ : MS) (μ' : MS) (hf : fX4_parse K μ = some μ') : CV l yX4_parse (ws_ yX4_parse cX4_parse 1 (Option.none : Option Jvm.ClassFile.FieldType)) (rmc 7 0 0 157) D d z [.ref o] (MP d o a μ) (MP d o a μ') := by
  refine mV_of rfl (by decide) (Nat.le_of_ble_eq_true rfl) ?_
  intro p e s m args below meth c A Q ls S hK hP hD hZ hS hA hl hret
  have hx := S.1
  have hb := S.2.1
  have hts := S.2.2.2.2
  have hl : lv_has ls 1 [(0, .ref o)] := hl
  have L38 : ∀ (n : Nat) (μ38 : MS) (H : Heap) (locs : List Loc) (ls : Array Slot), fX4_parse_L38 K n μ38 = some μ' → va_P D CL (MP d o a μ38) H → va_D A (MP d o a μ38) → va_S A s.heap H locs → lv_has ls 1 [(0, .ref o)] → W p l e (rmc 7 0 0 157) s m args below meth c H locs 0 0 Q (F0 m 38 ls []) := by
    intro n
    induction n with
    | zero =>
      intro μ38 H locs ls hf hP hD hS hl
      rw [fX4_parse_L38] at hf
      cases hf
    | succ n ih =>
      intro μ38 H locs ls hf hP hD hS hl
      rw [fX4_parse_L38] at hf
      refine lv_aload_n hx hb dX4_parse_38 rfl (lv_at hl 0 rfl) ?_
      obtain ⟨r_15, μ_13, h_14, hf⟩ := b2_some hf
      refine ci_call S hK hP hD hZ hS hA (tX4_isFine l D d z o a K μ38 _ _ h_14) (cwV 0 hts (lw_V q1769 q1771 qs52 q101 q1772) rfl rfl rfl (by decide +kernel) ⟨Nat.le_of_ble_eq_true rfl, Nat.le_of_ble_eq_true rfl⟩) (ci := 0) (q0 := 0) rfl rfl rfl hl.1 rfl (Nat.le_of_ble_eq_true rfl) ⟨Nat.le_of_ble_eq_true rfl, Nat.le_of_ble_eq_true rfl⟩ dX4_parse_39 ?_
      clear hP hD hS
      intro H locs hP hD hS
      clear h_14
      refine lv_if_eq (tgt := 59) hx hb dX4_parse_42 (by decide) (fun c_16 => ?_) (fun c_16 => ?_)
      · replace hf := it_f hf (bi_e0 c_16)
        clear c_16
        exact hret _ _ _ _ _ hf dX4_parse_59 hP hD hS
      · replace hf := it_t hf (bi_n0 c_16)
        clear c_16
        refine lv_aload_n hx hb dX4_parse_45 rfl (lv_at hl 0 rfl) ?_
        refine m_get S hK hP 22 (by decide) q1622 rfl dX4_parse_46 ?_
        refine lv_if_eq (tgt := 59) hx hb dX4_parse_49 (by decide) (fun c_17 => ?_) (fun c_17 => ?_)
        · replace hf := it_t hf c_17
          clear c_17
          exact hret _ _ _ _ _ hf dX4_parse_59 hP hD hS
        · replace hf := it_f hf c_17
          clear c_17
          refine lv_aload_n hx hb dX4_parse_52 rfl (lv_at hl 0 rfl) ?_
          obtain ⟨μ_18, h_19, hf⟩ := b1_some hf
          refine cv_call S hK hP hD hZ hS hA (tX4_parseBand l D d z o a K μ_13 _ h_19) (cwV 0 hts (lw_V q1853 q1855 qs65 q101 q1856) rfl rfl rfl (by decide +kernel) ⟨Nat.le_of_ble_eq_true rfl, Nat.le_of_ble_eq_true rfl⟩) (ci := 0) (q0 := 0) rfl rfl rfl hl.1 rfl (Nat.le_of_ble_eq_true rfl) ⟨Nat.le_of_ble_eq_true rfl, Nat.le_of_ble_eq_true rfl⟩ dX4_parse_53 ?_
          clear hP hD hS
          intro H locs hP hD hS
          clear h_19
          refine lv_goto (tgt := 38) hx hb dX4_parse_56 (by decide) ?_
          exact ih μ_18 _ _ _ hf hP hD hS (lv_sub hl [0] rfl)
  have L18 : ∀ (n : Nat) (μ18 : MS) (H : Heap) (locs : List Loc) (ls : Array Slot), fX4_parse_L18 K n μ18 = some μ' → va_P D CL (MP d o a μ18) H → va_D A (MP d o a μ18) → va_S A s.heap H locs → lv_has ls 1 [(0, .ref o)] → W p l e (rmc 7 0 0 157) s m args below meth c H locs 0 0 Q (F0 m 18 ls []) := by
    intro n
    induction n with
    | zero =>
      intro μ18 H locs ls hf hP hD hS hl
      rw [fX4_parse_L18] at hf
      cases hf
    | succ n ih =>
      intro μ18 H locs ls hf hP hD hS hl
      rw [fX4_parse_L18] at hf
      refine lv_aload_n hx hb dX4_parse_18 rfl (lv_at hl 0 rfl) ?_
      obtain ⟨μ_7, h_8, hf⟩ := b1_some hf
      refine cv_call S hK hP hD hZ hS hA (tX4_parsePoint l D d z o a K μ18 _ h_8) (cwV 0 hts (lw_V q1848 q1850 qs64 q101 q1851) rfl rfl rfl (by decide +kernel) ⟨Nat.le_of_ble_eq_true rfl, Nat.le_of_ble_eq_true rfl⟩) (ci := 0) (q0 := 0) rfl rfl rfl hl.1 rfl (Nat.le_of_ble_eq_true rfl) ⟨Nat.le_of_ble_eq_true rfl, Nat.le_of_ble_eq_true rfl⟩ dX4_parse_19 ?_
      clear hP hD hS
      intro H locs hP hD hS
      clear h_8
      refine lv_aload_n hx hb dX4_parse_22 rfl (lv_at hl 0 rfl) ?_
      obtain ⟨r_11, μ_9, h_10, hf⟩ := b2_some hf
      refine ci_call S hK hP hD hZ hS hA (tX4_isFine l D d z o a K μ_7 _ _ h_10) (cwV 0 hts (lw_V q1769 q1771 qs52 q101 q1772) rfl rfl rfl (by decide +kernel) ⟨Nat.le_of_ble_eq_true rfl, Nat.le_of_ble_eq_true rfl⟩) (ci := 0) (q0 := 0) rfl rfl rfl hl.1 rfl (Nat.le_of_ble_eq_true rfl) ⟨Nat.le_of_ble_eq_true rfl, Nat.le_of_ble_eq_true rfl⟩ dX4_parse_23 ?_
      clear hP hD hS
      intro H locs hP hD hS
      clear h_10
      refine lv_if_eq (tgt := 38) hx hb dX4_parse_26 (by decide) (fun c_12 => ?_) (fun c_12 => ?_)
      · replace hf := it_f hf (bi_e0 c_12)
        clear c_12
        exact L38 K μ_9 _ _ _ hf hP hD hS (lv_sub hl [0] rfl)
      · replace hf := it_t hf (bi_n0 c_12)
        clear c_12
        refine lv_aload_n hx hb dX4_parse_29 rfl (lv_at hl 0 rfl) ?_
        refine va_ldcS (tx := "point") (q := z.1 4) hx hb S.2.2.2.1 (hZ.2.2.2.2.2.1 ("AntennaTunerModel", 166, "point", 4) (List.mem_of_getElem? (i := 9) rfl)) dX4_parse_30 ?_
        obtain ⟨r_22, μ_20, h_21, hf⟩ := b2_some hf
        refine ci_call S hK hP hD hZ hS hA (tX4_isKeyword l D d z o a K 4 μ_9 _ _ h_21 (by decide)) (cwV 1 hts (lw_V q1803 q1805 qs59 q101 q1806) rfl rfl rfl (by decide +kernel) ⟨Nat.le_of_ble_eq_true rfl, Nat.le_of_ble_eq_true rfl⟩) (ci := 0) (q0 := 0) rfl rfl rfl hl.1 rfl (Nat.le_of_ble_eq_true rfl) ⟨Nat.le_of_ble_eq_true rfl, Nat.le_of_ble_eq_true rfl⟩ dX4_parse_32 ?_
        clear hP hD hS
        intro H locs hP hD hS
        clear h_21
        refine lv_if_ne (tgt := 18) hx hb dX4_parse_35 (by decide) (fun c_23 => ?_) (fun c_23 => ?_)
        · replace hf := it_t hf (bi_n0 c_23)
          clear c_23
          exact ih μ_20 _ _ _ hf hP hD hS (lv_sub hl [0] rfl)
        · replace hf := it_f hf (bi_e0 c_23)
          clear c_23
          exact L38 K μ_20 _ _ _ hf hP hD hS (lv_sub hl [0] rfl)
  unfold fX4_parse at hf
  refine lv_aload_n hx hb dX4_parse_0 rfl (lv_at hl 0 rfl) ?_
  refine lv_iconst (v := 0) hx hb dX4_parse_1 (by decide) ?_
  refine m_putI S hK hP hD hS 27 (by decide) q1627 rfl rfl rfl rfl rfl dX4_parse_2 ?_
  clear hP hD hS
  intro μ_1 e_ H locs hP hD hS
  replace hf := nm_some hf μ_1 e_
  clear e_
  refine lv_aload_n hx hb dX4_parse_5 rfl (lv_at hl 0 rfl) ?_
  refine lv_iconst (v := 0) hx hb dX4_parse_6 (by decide) ?_
  refine m_putI S hK hP hD hS 31 (by decide) q1631 rfl rfl rfl rfl rfl dX4_parse_7 ?_
  clear hP hD hS
  intro μ_2 e_ H locs hP hD hS
  replace hf := nm_some hf μ_2 e_
  clear e_
  refine lv_aload_n hx hb dX4_parse_10 rfl (lv_at hl 0 rfl) ?_
  obtain ⟨μ_3, h_4, hf⟩ := b1_some hf
  refine cv_call S hK hP hD hZ hS hA (tX4_next l D d z o a K μ_2 _ h_4) (cwV 0 hts (lw_V q1765 q1767 qs51 q101 q1768) rfl rfl rfl (by decide +kernel) ⟨Nat.le_of_ble_eq_true rfl, Nat.le_of_ble_eq_true rfl⟩) (ci := 0) (q0 := 0) rfl rfl rfl hl.1 rfl (Nat.le_of_ble_eq_true rfl) ⟨Nat.le_of_ble_eq_true rfl, Nat.le_of_ble_eq_true rfl⟩ dX4_parse_11 ?_
  clear hP hD hS
  intro H locs hP hD hS
  clear h_4
  refine lv_aload_n hx hb dX4_parse_14 rfl (lv_at hl 0 rfl) ?_
  obtain ⟨μ_5, h_6, hf⟩ := b1_some hf
  refine cv_call S hK hP hD hZ hS hA (tX4_parseHead l D d z o a K μ_3 _ h_6) (cwV 0 hts (lw_V q1794 q1796 qs57 q101 q1797) rfl rfl rfl (by decide +kernel) ⟨Nat.le_of_ble_eq_true rfl, Nat.le_of_ble_eq_true rfl⟩) (ci := 0) (q0 := 0) rfl rfl rfl hl.1 rfl (Nat.le_of_ble_eq_true rfl) ⟨Nat.le_of_ble_eq_true rfl, Nat.le_of_ble_eq_true rfl⟩ dX4_parse_15 ?_
  clear hP hD hS
  intro H locs hP hD hS
  clear h_6
  exact L18 K μ_5 _ _ _ hf hP hD hS (lv_sub hl [0] rfl)
def fX4_load (K : Nat) (μ : MS) : Option (Int32 × MS) :=
  nm (sI μ 19 (μ.1 18)) fun μ_1 =>
  nm (sI μ_1 18 (0 : Int32)) fun μ_2 =>
  nm (sI μ_2 20 (0 : Int32)) fun μ_3 =>
  nm (sI μ_3 24 (0 : Int32)) fun μ_4 =>
  nm (sI μ_4 25 (-1 : Int32)) fun μ_5 =>
  b1 (fX4_parse K μ_5) fun μ_6 =>
  b2 (fX4_isFine K μ_6) fun r_10 μ_8 =>
  if r_10 = true then
    b1 (fX4_takeOver K μ_8) fun μ_12 =>
    some (μ_12.1 10, μ_12)
  else
    some ((-10 : Int32) - (μ_8.1 24), μ_8)
set_option maxHeartbeats 4000000 in
set_option maxRecDepth 100000 in
theorem tX4_load (l : Launch) (D : va_G) (d : Nat → ClassId) (z : ZT) (o : Nat) (a : Nat → Nat) (K : Nat) (μ : MS) (r : Int32) (μ' : MS) (hf : fX4_load K μ = some (r, μ')) : CI l yX4_load (ws_ yX4_load cX4_load 1 (Option.some Jvm.ClassFile.FieldType.int)) (rmc 8 0 0 177) D d z [.ref o] (MP d o a μ) r (MP d o a μ') := by
  refine mI_of rfl (by decide) (Nat.le_of_ble_eq_true rfl) ?_
  intro p e s m args below meth c A Q ls S hK hP hD hZ hS hA hl hret
  have hx := S.1
  have hb := S.2.1
  have hts := S.2.2.2.2
  have hl : lv_has ls 1 [(0, .ref o)] := hl
  unfold fX4_load at hf
  refine lv_aload_n hx hb dX4_load_0 rfl (lv_at hl 0 rfl) ?_
  refine lv_aload_n hx hb dX4_load_1 rfl (lv_at hl 0 rfl) ?_
  refine m_get S hK hP 18 (by decide) q1618 rfl dX4_load_2 ?_
  refine m_putI S hK hP hD hS 19 (by decide) q1619 rfl rfl rfl rfl rfl dX4_load_5 ?_
  clear hP hD hS
  intro μ_1 e_ H locs hP hD hS
  replace hf := nm_some hf μ_1 e_
  clear e_
  refine lv_aload_n hx hb dX4_load_8 rfl (lv_at hl 0 rfl) ?_
  refine lv_iconst (v := 0) hx hb dX4_load_9 (by decide) ?_
  refine m_putI S hK hP hD hS 18 (by decide) q1618 rfl rfl rfl rfl rfl dX4_load_10 ?_
  clear hP hD hS
  intro μ_2 e_ H locs hP hD hS
  replace hf := nm_some hf μ_2 e_
  clear e_
  refine lv_aload_n hx hb dX4_load_13 rfl (lv_at hl 0 rfl) ?_
  refine lv_iconst (v := 0) hx hb dX4_load_14 (by decide) ?_
  refine m_putI S hK hP hD hS 20 (by decide) q1620 rfl rfl rfl rfl rfl dX4_load_15 ?_
  clear hP hD hS
  intro μ_3 e_ H locs hP hD hS
  replace hf := nm_some hf μ_3 e_
  clear e_
  refine lv_aload_n hx hb dX4_load_18 rfl (lv_at hl 0 rfl) ?_
  refine lv_iconst (v := 0) hx hb dX4_load_19 (by decide) ?_
  refine m_putI S hK hP hD hS 24 (by decide) q1624 rfl rfl rfl rfl rfl dX4_load_20 ?_
  clear hP hD hS
  intro μ_4 e_ H locs hP hD hS
  replace hf := nm_some hf μ_4 e_
  clear e_
  refine lv_aload_n hx hb dX4_load_23 rfl (lv_at hl 0 rfl) ?_
  refine lv_iconst (v := -1) hx hb dX4_load_24 (by decide) ?_
  refine m_putI S hK hP hD hS 25 (by decide) q1625 rfl rfl rfl rfl rfl dX4_load_25 ?_
  clear hP hD hS
  intro μ_5 e_ H locs hP hD hS
  replace hf := nm_some hf μ_5 e_
  clear e_
  refine lv_aload_n hx hb dX4_load_28 rfl (lv_at hl 0 rfl) ?_
  obtain ⟨μ_6, h_7, hf⟩ := b1_some hf
  refine cv_call S hK hP hD hZ hS hA (tX4_parse l D d z o a K μ_5 _ h_7) (cwV 0 hts (lw_V q1761 q1763 qs50 q101 q1764) rfl rfl rfl (by decide +kernel) ⟨Nat.le_of_ble_eq_true rfl, Nat.le_of_ble_eq_true rfl⟩) (ci := 0) (q0 := 0) rfl rfl rfl hl.1 rfl (Nat.le_of_ble_eq_true rfl) ⟨Nat.le_of_ble_eq_true rfl, Nat.le_of_ble_eq_true rfl⟩ dX4_load_29 ?_
  clear hP hD hS
  intro H locs hP hD hS
  clear h_7
  refine lv_aload_n hx hb dX4_load_32 rfl (lv_at hl 0 rfl) ?_
  obtain ⟨r_10, μ_8, h_9, hf⟩ := b2_some hf
  refine ci_call S hK hP hD hZ hS hA (tX4_isFine l D d z o a K μ_6 _ _ h_9) (cwV 0 hts (lw_V q1769 q1771 qs52 q101 q1772) rfl rfl rfl (by decide +kernel) ⟨Nat.le_of_ble_eq_true rfl, Nat.le_of_ble_eq_true rfl⟩) (ci := 0) (q0 := 0) rfl rfl rfl hl.1 rfl (Nat.le_of_ble_eq_true rfl) ⟨Nat.le_of_ble_eq_true rfl, Nat.le_of_ble_eq_true rfl⟩ dX4_load_33 ?_
  clear hP hD hS
  intro H locs hP hD hS
  clear h_9
  refine lv_if_ne (tgt := 47) hx hb dX4_load_36 (by decide) (fun c_11 => ?_) (fun c_11 => ?_)
  · replace hf := it_t hf (bi_n0 c_11)
    clear c_11
    refine lv_aload_n hx hb dX4_load_47 rfl (lv_at hl 0 rfl) ?_
    obtain ⟨μ_12, h_13, hf⟩ := b1_some hf
    refine cv_call S hK hP hD hZ hS hA (tX4_takeOver l D d z o a K μ_8 _ h_13) (cwV 0 hts (lw_V q1858 q1860 qs66 q101 q1861) rfl rfl rfl (by decide +kernel) ⟨Nat.le_of_ble_eq_true rfl, Nat.le_of_ble_eq_true rfl⟩) (ci := 0) (q0 := 0) rfl rfl rfl hl.1 rfl (Nat.le_of_ble_eq_true rfl) ⟨Nat.le_of_ble_eq_true rfl, Nat.le_of_ble_eq_true rfl⟩ dX4_load_48 ?_
    clear hP hD hS
    intro H locs hP hD hS
    clear h_13
    refine lv_aload_n hx hb dX4_load_51 rfl (lv_at hl 0 rfl) ?_
    refine m_get S hK hP 10 (by decide) q1610 rfl dX4_load_52 ?_
    exact hret _ _ _ _ _ _ hf dX4_load_55 hP hD hS
  · replace hf := it_f hf (bi_e0 c_11)
    clear c_11
    refine lv_bipush (v := -10) hx hb dX4_load_39 (by decide) ?_
    refine lv_aload_n hx hb dX4_load_41 rfl (lv_at hl 0 rfl) ?_
    refine m_get S hK hP 24 (by decide) q1624 rfl dX4_load_42 ?_
    refine lv_isub hx hb dX4_load_45 ?_
    exact hret _ _ _ _ _ _ hf dX4_load_46 hP hD hS
