/-! constructors of failures -/
set_option maxRecDepth 100000
set_option maxHeartbeats 4000000 in
set_option maxRecDepth 100000 in
theorem tJ11_init_2_X11n (l : Launch) (D : va_G) (d : Nat → ClassId) (z : ZT) (o : Nat) : CVS l yJ11_init_2 (ws_ yJ11_init_2 cJ11_init_2 5 (Option.none : Option Jvm.ClassFile.FieldType)) (rmc 1 0 0 12) D d z [.ref o, .null, .null, .int (0 : Int32), .int (0 : Int32)] ([(o, .inr (10, [.int (0 : Int32), .null, .null, .null, .null, .null, .int (0 : Int32)]))]) (fun u : UU => [(o, .inr (10, [.int (0 : Int32), .null, .null, .null, .null, .null, .int (0 : Int32)]))]) (fun _ => True) := by
  refine CVS.of (rt := .int) (own := RJ11) rfl (by decide) (Nat.le_of_ble_eq_true rfl) ?_
  intro p e s m args below meth c A Q ls S hin hK hP hD hZ hS hA hl hret0
  have hx := S.1
  have hb := S.2.1
  have hts := S.2.2.2.2
  have hl : lv_has ls 5 [(0, .ref o), (1, .null), (2, .null), (3, .int (0 : Int32)), (4, .int (0 : Int32))] := hl
  refine lv_aload_n hx hb dJ11_init_2_0 rfl (lv_at hl 0 rfl) ?_
  refine W.objInit hx hb S.2.2.2.1 (hts _ q703) (hts _ q136) (hts _ q137) rfl (by rw [S.2.2.1]; exact hl.1) rfl dJ11_init_2_1 (Nat.le_of_ble_eq_true rfl) (Nat.le_of_ble_eq_true rfl) ?_
  refine W.eq (g2 := F0 m 4 ls []) rfl ?_
  refine lv_aload_n hx hb dJ11_init_2_4 rfl (lv_at hl 0 rfl) ?_
  refine lv_aload_n hx hb dJ11_init_2_5 rfl (lv_at hl 0 rfl) ?_
  refine g_put hx hb hts S.2.2.2.1 hK hP hD hS in_X11 tyX11 tyX11_ok nmX11 0 rfl rfl 1 (by decide) q738 (fun _ h9 => h9) rfl (v := .ref o) rfl rfl rfl (Nat.le_of_ble_eq_true rfl) (w' := [(o, .inr (10, [.int (0 : Int32), .ref o, .null, .null, .null, .null, .int (0 : Int32)]))]) rfl dJ11_init_2_6 ?_
  clear hP hD hS
  intro H locs hP hD hS
  refine lv_aload_n hx hb dJ11_init_2_9 rfl (lv_at hl 0 rfl) ?_
  rcases hZ.2.1 with hsi | ⟨ts_1, hsi⟩
  · refine va_gets hx hb hsi hS S.2.2.2.1 (hts _ q704) (fun _ h9 => h9) dJ11_init_2_10 ?_
    refine g_put hx hb hts S.2.2.2.1 hK hP hD hS in_X11 tyX11 tyX11_ok nmX11 0 rfl rfl 2 (by decide) q739 (fun _ h9 => h9) rfl (v := .null) rfl rfl rfl (Nat.le_of_ble_eq_true rfl) (w' := [(o, .inr (10, [.int (0 : Int32), .ref o, .null, .null, .null, .null, .int (0 : Int32)]))]) rfl dJ11_init_2_13 ?_
    clear hP hD hS
    intro H locs hP hD hS
    refine lv_aload_n hx hb dJ11_init_2_16 rfl (lv_at hl 0 rfl) ?_
    rcases hZ.2.2.1 with hsi | ⟨ts_2, hsi⟩
    · refine va_gets hx hb hsi hS S.2.2.2.1 (hts _ q706) (fun _ h9 => h9) dJ11_init_2_17 ?_
      refine g_put hx hb hts S.2.2.2.1 hK hP hD hS in_X11 tyX11 tyX11_ok nmX11 0 rfl rfl 3 (by decide) q740 (fun _ h9 => h9) rfl (v := .null) rfl rfl rfl (Nat.le_of_ble_eq_true rfl) (w' := [(o, .inr (10, [.int (0 : Int32), .ref o, .null, .null, .null, .null, .int (0 : Int32)]))]) rfl dJ11_init_2_20 ?_
      clear hP hD hS
      intro H locs hP hD hS
      refine lv_iload hx hb dJ11_init_2_23 (lv_at hl 4 rfl) ?_
      refine lv_if_eq (tgt := 36) hx hb dJ11_init_2_25 (by decide) (fun hc => ?_) (fun hc => absurd (by decide) hc)
      clear hc
      refine lv_aload_n hx hb dJ11_init_2_36 rfl (lv_at hl 0 rfl) ?_
      refine lv_null hx hb dJ11_init_2_37 ?_
      refine g_put hx hb hts S.2.2.2.1 hK hP hD hS in_X11 tyX11 tyX11_ok nmX11 0 rfl rfl 2 (by decide) q739 (fun _ h9 => h9) rfl (v := .null) rfl rfl rfl (Nat.le_of_ble_eq_true rfl) (w' := [(o, .inr (10, [.int (0 : Int32), .ref o, .null, .null, .null, .null, .int (0 : Int32)]))]) rfl dJ11_init_2_38 ?_
      clear hP hD hS
      intro H locs hP hD hS
      refine lv_aload_n hx hb dJ11_init_2_41 rfl (lv_at hl 0 rfl) ?_
      refine lv_aload_nN hx hb dJ11_init_2_42 rfl (lv_at hl 1 rfl) ?_
      refine g_put hx hb hts S.2.2.2.1 hK hP hD hS in_X11 tyX11 tyX11_ok nmX11 0 rfl rfl 4 (by decide) q737 (fun _ h9 => h9) rfl (v := .null) rfl rfl rfl (Nat.le_of_ble_eq_true rfl) (w' := [(o, .inr (10, [.int (0 : Int32), .ref o, .null, .null, .null, .null, .int (0 : Int32)]))]) rfl dJ11_init_2_43 ?_
      clear hP hD hS
      intro H locs hP hD hS
      refine lv_aload_n hx hb dJ11_init_2_46 rfl (lv_at hl 0 rfl) ?_
      refine lv_aload_nN hx hb dJ11_init_2_47 rfl (lv_at hl 2 rfl) ?_
      refine g_put hx hb hts S.2.2.2.1 hK hP hD hS in_X11 tyX11 tyX11_ok nmX11 0 rfl rfl 1 (by decide) q738 (fun _ h9 => h9) rfl (v := .null) rfl rfl rfl (Nat.le_of_ble_eq_true rfl) (w' := [(o, .inr (10, [.int (0 : Int32), .null, .null, .null, .null, .null, .int (0 : Int32)]))]) rfl dJ11_init_2_48 ?_
      clear hP hD hS
      intro H locs hP hD hS
      refine lv_iload_n hx hb dJ11_init_2_51 rfl (lv_at hl 3 rfl) ?_
      refine lv_if_ne (tgt := 60) hx hb dJ11_init_2_52 (by decide) (fun hc => absurd hc (by decide)) (fun hc => ?_)
      clear hc
      refine lv_aload_n hx hb dJ11_init_2_55 rfl (lv_at hl 0 rfl) ?_
      refine lv_null hx hb dJ11_init_2_56 ?_
      refine g_put hx hb hts S.2.2.2.1 hK hP hD hS in_X11 tyX11 tyX11_ok nmX11 0 rfl rfl 3 (by decide) q740 (fun _ h9 => h9) rfl (v := .null) rfl rfl rfl (Nat.le_of_ble_eq_true rfl) (w' := [(o, .inr (10, [.int (0 : Int32), .null, .null, .null, .null, .null, .int (0 : Int32)]))]) rfl dJ11_init_2_57 ?_
      clear hP hD hS
      intro H locs hP hD hS
      refine W.widen (k := 0) (n := 0) (Nat.le_of_ble_eq_true rfl) (Nat.le_of_ble_eq_true rfl) ?_
      exact hret0 (fun _ => 0) trivial _ _ _ _ dJ11_init_2_60 hP hD hS
    · refine va_gets hx hb hsi hS S.2.2.2.1 (hts _ q706) (fun _ h9 => h9) dJ11_init_2_17 ?_
      refine g_put hx hb hts S.2.2.2.1 hK hP hD hS in_X11 tyX11 tyX11_ok nmX11 0 rfl rfl 3 (by decide) q740 (fun _ h9 => h9) rfl (v := .ref ts_2) rfl rfl rfl (Nat.le_of_ble_eq_true rfl) (w' := [(o, .inr (10, [.int (0 : Int32), .ref o, .null, .ref ts_2, .null, .null, .int (0 : Int32)]))]) rfl dJ11_init_2_20 ?_
      clear hP hD hS
      intro H locs hP hD hS
      refine lv_iload hx hb dJ11_init_2_23 (lv_at hl 4 rfl) ?_
      refine lv_if_eq (tgt := 36) hx hb dJ11_init_2_25 (by decide) (fun hc => ?_) (fun hc => absurd (by decide) hc)
      clear hc
      refine lv_aload_n hx hb dJ11_init_2_36 rfl (lv_at hl 0 rfl) ?_
      refine lv_null hx hb dJ11_init_2_37 ?_
      refine g_put hx hb hts S.2.2.2.1 hK hP hD hS in_X11 tyX11 tyX11_ok nmX11 0 rfl rfl 2 (by decide) q739 (fun _ h9 => h9) rfl (v := .null) rfl rfl rfl (Nat.le_of_ble_eq_true rfl) (w' := [(o, .inr (10, [.int (0 : Int32), .ref o, .null, .ref ts_2, .null, .null, .int (0 : Int32)]))]) rfl dJ11_init_2_38 ?_
      clear hP hD hS
      intro H locs hP hD hS
      refine lv_aload_n hx hb dJ11_init_2_41 rfl (lv_at hl 0 rfl) ?_
      refine lv_aload_nN hx hb dJ11_init_2_42 rfl (lv_at hl 1 rfl) ?_
      refine g_put hx hb hts S.2.2.2.1 hK hP hD hS in_X11 tyX11 tyX11_ok nmX11 0 rfl rfl 4 (by decide) q737 (fun _ h9 => h9) rfl (v := .null) rfl rfl rfl (Nat.le_of_ble_eq_true rfl) (w' := [(o, .inr (10, [.int (0 : Int32), .ref o, .null, .ref ts_2, .null, .null, .int (0 : Int32)]))]) rfl dJ11_init_2_43 ?_
      clear hP hD hS
      intro H locs hP hD hS
      refine lv_aload_n hx hb dJ11_init_2_46 rfl (lv_at hl 0 rfl) ?_
      refine lv_aload_nN hx hb dJ11_init_2_47 rfl (lv_at hl 2 rfl) ?_
      refine g_put hx hb hts S.2.2.2.1 hK hP hD hS in_X11 tyX11 tyX11_ok nmX11 0 rfl rfl 1 (by decide) q738 (fun _ h9 => h9) rfl (v := .null) rfl rfl rfl (Nat.le_of_ble_eq_true rfl) (w' := [(o, .inr (10, [.int (0 : Int32), .null, .null, .ref ts_2, .null, .null, .int (0 : Int32)]))]) rfl dJ11_init_2_48 ?_
      clear hP hD hS
      intro H locs hP hD hS
      refine lv_iload_n hx hb dJ11_init_2_51 rfl (lv_at hl 3 rfl) ?_
      refine lv_if_ne (tgt := 60) hx hb dJ11_init_2_52 (by decide) (fun hc => absurd hc (by decide)) (fun hc => ?_)
      clear hc
      refine lv_aload_n hx hb dJ11_init_2_55 rfl (lv_at hl 0 rfl) ?_
      refine lv_null hx hb dJ11_init_2_56 ?_
      refine g_put hx hb hts S.2.2.2.1 hK hP hD hS in_X11 tyX11 tyX11_ok nmX11 0 rfl rfl 3 (by decide) q740 (fun _ h9 => h9) rfl (v := .null) rfl rfl rfl (Nat.le_of_ble_eq_true rfl) (w' := [(o, .inr (10, [.int (0 : Int32), .null, .null, .null, .null, .null, .int (0 : Int32)]))]) rfl dJ11_init_2_57 ?_
      clear hP hD hS
      intro H locs hP hD hS
      refine W.widen (k := 0) (n := 0) (Nat.le_of_ble_eq_true rfl) (Nat.le_of_ble_eq_true rfl) ?_
      exact hret0 (fun _ => 0) trivial _ _ _ _ dJ11_init_2_60 hP hD hS
  · refine va_gets hx hb hsi hS S.2.2.2.1 (hts _ q704) (fun _ h9 => h9) dJ11_init_2_10 ?_
    refine g_put hx hb hts S.2.2.2.1 hK hP hD hS in_X11 tyX11 tyX11_ok nmX11 0 rfl rfl 2 (by decide) q739 (fun _ h9 => h9) rfl (v := .ref ts_1) rfl rfl rfl (Nat.le_of_ble_eq_true rfl) (w' := [(o, .inr (10, [.int (0 : Int32), .ref o, .ref ts_1, .null, .null, .null, .int (0 : Int32)]))]) rfl dJ11_init_2_13 ?_
    clear hP hD hS
    intro H locs hP hD hS
    refine lv_aload_n hx hb dJ11_init_2_16 rfl (lv_at hl 0 rfl) ?_
    rcases hZ.2.2.1 with hsi | ⟨ts_2, hsi⟩
    · refine va_gets hx hb hsi hS S.2.2.2.1 (hts _ q706) (fun _ h9 => h9) dJ11_init_2_17 ?_
      refine g_put hx hb hts S.2.2.2.1 hK hP hD hS in_X11 tyX11 tyX11_ok nmX11 0 rfl rfl 3 (by decide) q740 (fun _ h9 => h9) rfl (v := .null) rfl rfl rfl (Nat.le_of_ble_eq_true rfl) (w' := [(o, .inr (10, [.int (0 : Int32), .ref o, .ref ts_1, .null, .null, .null, .int (0 : Int32)]))]) rfl dJ11_init_2_20 ?_
      clear hP hD hS
      intro H locs hP hD hS
      refine lv_iload hx hb dJ11_init_2_23 (lv_at hl 4 rfl) ?_
      refine lv_if_eq (tgt := 36) hx hb dJ11_init_2_25 (by decide) (fun hc => ?_) (fun hc => absurd (by decide) hc)
      clear hc
      refine lv_aload_n hx hb dJ11_init_2_36 rfl (lv_at hl 0 rfl) ?_
      refine lv_null hx hb dJ11_init_2_37 ?_
      refine g_put hx hb hts S.2.2.2.1 hK hP hD hS in_X11 tyX11 tyX11_ok nmX11 0 rfl rfl 2 (by decide) q739 (fun _ h9 => h9) rfl (v := .null) rfl rfl rfl (Nat.le_of_ble_eq_true rfl) (w' := [(o, .inr (10, [.int (0 : Int32), .ref o, .null, .null, .null, .null, .int (0 : Int32)]))]) rfl dJ11_init_2_38 ?_
      clear hP hD hS
      intro H locs hP hD hS
      refine lv_aload_n hx hb dJ11_init_2_41 rfl (lv_at hl 0 rfl) ?_
      refine lv_aload_nN hx hb dJ11_init_2_42 rfl (lv_at hl 1 rfl) ?_
      refine g_put hx hb hts S.2.2.2.1 hK hP hD hS in_X11 tyX11 tyX11_ok nmX11 0 rfl rfl 4 (by decide) q737 (fun _ h9 => h9) rfl (v := .null) rfl rfl rfl (Nat.le_of_ble_eq_true rfl) (w' := [(o, .inr (10, [.int (0 : Int32), .ref o, .null, .null, .null, .null, .int (0 : Int32)]))]) rfl dJ11_init_2_43 ?_
      clear hP hD hS
      intro H locs hP hD hS
      refine lv_aload_n hx hb dJ11_init_2_46 rfl (lv_at hl 0 rfl) ?_
      refine lv_aload_nN hx hb dJ11_init_2_47 rfl (lv_at hl 2 rfl) ?_
      refine g_put hx hb hts S.2.2.2.1 hK hP hD hS in_X11 tyX11 tyX11_ok nmX11 0 rfl rfl 1 (by decide) q738 (fun _ h9 => h9) rfl (v := .null) rfl rfl rfl (Nat.le_of_ble_eq_true rfl) (w' := [(o, .inr (10, [.int (0 : Int32), .null, .null, .null, .null, .null, .int (0 : Int32)]))]) rfl dJ11_init_2_48 ?_
      clear hP hD hS
      intro H locs hP hD hS
      refine lv_iload_n hx hb dJ11_init_2_51 rfl (lv_at hl 3 rfl) ?_
      refine lv_if_ne (tgt := 60) hx hb dJ11_init_2_52 (by decide) (fun hc => absurd hc (by decide)) (fun hc => ?_)
      clear hc
      refine lv_aload_n hx hb dJ11_init_2_55 rfl (lv_at hl 0 rfl) ?_
      refine lv_null hx hb dJ11_init_2_56 ?_
      refine g_put hx hb hts S.2.2.2.1 hK hP hD hS in_X11 tyX11 tyX11_ok nmX11 0 rfl rfl 3 (by decide) q740 (fun _ h9 => h9) rfl (v := .null) rfl rfl rfl (Nat.le_of_ble_eq_true rfl) (w' := [(o, .inr (10, [.int (0 : Int32), .null, .null, .null, .null, .null, .int (0 : Int32)]))]) rfl dJ11_init_2_57 ?_
      clear hP hD hS
      intro H locs hP hD hS
      refine W.widen (k := 0) (n := 0) (Nat.le_of_ble_eq_true rfl) (Nat.le_of_ble_eq_true rfl) ?_
      exact hret0 (fun _ => 0) trivial _ _ _ _ dJ11_init_2_60 hP hD hS
    · refine va_gets hx hb hsi hS S.2.2.2.1 (hts _ q706) (fun _ h9 => h9) dJ11_init_2_17 ?_
      refine g_put hx hb hts S.2.2.2.1 hK hP hD hS in_X11 tyX11 tyX11_ok nmX11 0 rfl rfl 3 (by decide) q740 (fun _ h9 => h9) rfl (v := .ref ts_2) rfl rfl rfl (Nat.le_of_ble_eq_true rfl) (w' := [(o, .inr (10, [.int (0 : Int32), .ref o, .ref ts_1, .ref ts_2, .null, .null, .int (0 : Int32)]))]) rfl dJ11_init_2_20 ?_
      clear hP hD hS
      intro H locs hP hD hS
      refine lv_iload hx hb dJ11_init_2_23 (lv_at hl 4 rfl) ?_
      refine lv_if_eq (tgt := 36) hx hb dJ11_init_2_25 (by decide) (fun hc => ?_) (fun hc => absurd (by decide) hc)
      clear hc
      refine lv_aload_n hx hb dJ11_init_2_36 rfl (lv_at hl 0 rfl) ?_
      refine lv_null hx hb dJ11_init_2_37 ?_
      refine g_put hx hb hts S.2.2.2.1 hK hP hD hS in_X11 tyX11 tyX11_ok nmX11 0 rfl rfl 2 (by decide) q739 (fun _ h9 => h9) rfl (v := .null) rfl rfl rfl (Nat.le_of_ble_eq_true rfl) (w' := [(o, .inr (10, [.int (0 : Int32), .ref o, .null, .ref ts_2, .null, .null, .int (0 : Int32)]))]) rfl dJ11_init_2_38 ?_
      clear hP hD hS
      intro H locs hP hD hS
      refine lv_aload_n hx hb dJ11_init_2_41 rfl (lv_at hl 0 rfl) ?_
      refine lv_aload_nN hx hb dJ11_init_2_42 rfl (lv_at hl 1 rfl) ?_
      refine g_put hx hb hts S.2.2.2.1 hK hP hD hS in_X11 tyX11 tyX11_ok nmX11 0 rfl rfl 4 (by decide) q737 (fun _ h9 => h9) rfl (v := .null) rfl rfl rfl (Nat.le_of_ble_eq_true rfl) (w' := [(o, .inr (10, [.int (0 : Int32), .ref o, .null, .ref ts_2, .null, .null, .int (0 : Int32)]))]) rfl dJ11_init_2_43 ?_
      clear hP hD hS
      intro H locs hP hD hS
      refine lv_aload_n hx hb dJ11_init_2_46 rfl (lv_at hl 0 rfl) ?_
      refine lv_aload_nN hx hb dJ11_init_2_47 rfl (lv_at hl 2 rfl) ?_
      refine g_put hx hb hts S.2.2.2.1 hK hP hD hS in_X11 tyX11 tyX11_ok nmX11 0 rfl rfl 1 (by decide) q738 (fun _ h9 => h9) rfl (v := .null) rfl rfl rfl (Nat.le_of_ble_eq_true rfl) (w' := [(o, .inr (10, [.int (0 : Int32), .null, .null, .ref ts_2, .null, .null, .int (0 : Int32)]))]) rfl dJ11_init_2_48 ?_
      clear hP hD hS
      intro H locs hP hD hS
      refine lv_iload_n hx hb dJ11_init_2_51 rfl (lv_at hl 3 rfl) ?_
      refine lv_if_ne (tgt := 60) hx hb dJ11_init_2_52 (by decide) (fun hc => absurd hc (by decide)) (fun hc => ?_)
      clear hc
      refine lv_aload_n hx hb dJ11_init_2_55 rfl (lv_at hl 0 rfl) ?_
      refine lv_null hx hb dJ11_init_2_56 ?_
      refine g_put hx hb hts S.2.2.2.1 hK hP hD hS in_X11 tyX11 tyX11_ok nmX11 0 rfl rfl 3 (by decide) q740 (fun _ h9 => h9) rfl (v := .null) rfl rfl rfl (Nat.le_of_ble_eq_true rfl) (w' := [(o, .inr (10, [.int (0 : Int32), .null, .null, .null, .null, .null, .int (0 : Int32)]))]) rfl dJ11_init_2_57 ?_
      clear hP hD hS
      intro H locs hP hD hS
      refine W.widen (k := 0) (n := 0) (Nat.le_of_ble_eq_true rfl) (Nat.le_of_ble_eq_true rfl) ?_
      exact hret0 (fun _ => 0) trivial _ _ _ _ dJ11_init_2_60 hP hD hS
set_option maxHeartbeats 4000000 in
set_option maxRecDepth 100000 in
theorem tJ12_init_X11n (l : Launch) (D : va_G) (d : Nat → ClassId) (z : ZT) (o : Nat) : CVS l yJ12_init (ws_ yJ12_init cJ12_init 5 (Option.none : Option Jvm.ClassFile.FieldType)) (rmc 2 0 0 36) D d z [.ref o, .null, .null, .int (0 : Int32), .int (0 : Int32)] ([(o, .inr (10, [.int (0 : Int32), .null, .null, .null, .null, .null, .int (0 : Int32)]))]) (fun u : UU => [(o, .inr (10, [.int (0 : Int32), .null, .null, .null, .null, .null, .int (0 : Int32)]))]) (fun _ => True) := by
  refine CVS.of (rt := .int) (own := RJ12) rfl (by decide) (Nat.le_of_ble_eq_true rfl) ?_
  intro p e s m args below meth c A Q ls S hin hK hP hD hZ hS hA hl hret0
  have hx := S.1
  have hb := S.2.1
  have hts := S.2.2.2.2
  have hl : lv_has ls 5 [(0, .ref o), (1, .null), (2, .null), (3, .int (0 : Int32)), (4, .int (0 : Int32))] := hl
  refine lv_aload_n hx hb dJ12_init_0 rfl (lv_at hl 0 rfl) ?_
  refine lv_aload_nN hx hb dJ12_init_1 rfl (lv_at hl 1 rfl) ?_
  refine lv_aload_nN hx hb dJ12_init_2 rfl (lv_at hl 2 rfl) ?_
  refine lv_iload_n hx hb dJ12_init_3 rfl (lv_at hl 3 rfl) ?_
  refine lv_iload hx hb dJ12_init_4 (lv_at hl 4 rfl) ?_
  refine run_vS0 (wr := []) (w' := fun u : UU => [(o, .inr (10, [.int (0 : Int32), .null, .null, .null, .null, .null, .int (0 : Int32)]))]) (va_runI (As := [.null, .null, .int (0 : Int32), .int (0 : Int32)]) (rest := []) S (tJ11_init_2_X11n l D d z o _) (cwI 4 hts (lw_meth q731) rfl rfl rfl (hts _ q113) (hts _ q729) (hts _ q730) rfl (by decide +kernel) ⟨(Nat.le_of_ble_eq_true rfl), (Nat.le_of_ble_eq_true rfl)⟩) ⟨Pw.blind, fun U hU hW => Pw.cut (tl := []) hK (by rw [List.append_nil]; exact hP) (by rw [List.append_nil]; exact hD) hZ hS hA [0] rfl rfl hU hW⟩ rfl rfl hl.1 rfl (lv_room (Nat.le_of_ble_eq_true rfl)) dJ12_init_6 ⟨(Nat.le_of_ble_eq_true rfl), (Nat.le_of_ble_eq_true rfl)⟩) hP hD hS hA [0] [] [0] rfl rfl rfl rfl (by decide) rfl (fun _ => rfl) ?_
  clear hP hD hS
  intro u_1 _ H locs hP hD hS
  refine W.widen (k := 0) (n := 0) (Nat.le_of_ble_eq_true rfl) (Nat.le_of_ble_eq_true rfl) ?_
  exact hret0 (fun _ => 0) trivial _ _ _ _ dJ12_init_9 hP hD hS
set_option maxHeartbeats 4000000 in
set_option maxRecDepth 100000 in
theorem tX10_init_X11n (l : Launch) (D : va_G) (d : Nat → ClassId) (z : ZT) (o : Nat) (p0 : Int32) : CVS l yX10_init (ws_ yX10_init cX10_init 3 (Option.none : Option Jvm.ClassFile.FieldType)) (rmc 3 0 0 60) D d z [.ref o, .int p0, .null] ([(o, .inr (10, [.int (0 : Int32), .null, .null, .null, .null, .null, .int (0 : Int32)]))]) (fun u : UU => [(o, .inr (10, [.int p0, .null, .null, .null, .null, .null, .int (0 : Int32)]))]) (fun _ => True) := by
  refine CVS.of (rt := .int) (own := RX10) rfl (by decide) (Nat.le_of_ble_eq_true rfl) ?_
  intro p e s m args below meth c A Q ls S hin hK hP hD hZ hS hA hl hret0
  have hx := S.1
  have hb := S.2.1
  have hts := S.2.2.2.2
  have hl : lv_has ls 3 [(0, .ref o), (1, .int p0), (2, .null)] := hl
  refine lv_aload_n hx hb dX10_init_0 rfl (lv_at hl 0 rfl) ?_
  refine lv_null hx hb dX10_init_1 ?_
  refine lv_aload_nN hx hb dX10_init_2 rfl (lv_at hl 2 rfl) ?_
  refine lv_iconst (v := 0) hx hb dX10_init_3 (by decide) ?_
  refine lv_iconst (v := 0) hx hb dX10_init_4 (by decide) ?_
  refine run_vS0 (wr := []) (w' := fun u : UU => [(o, .inr (10, [.int (0 : Int32), .null, .null, .null, .null, .null, .int (0 : Int32)]))]) (va_runI (As := [.null, .null, .int (0 : Int32), .int (0 : Int32)]) (rest := []) S (tJ12_init_X11n l D d z o _) (cwI 4 hts (lw_meth q728) rfl rfl rfl (hts _ q114) (hts _ q1317) (hts _ q727) rfl (by decide +kernel) ⟨(Nat.le_of_ble_eq_true rfl), (Nat.le_of_ble_eq_true rfl)⟩) ⟨Pw.blind, fun U hU hW => Pw.cut (tl := []) hK (by rw [List.append_nil]; exact hP) (by rw [List.append_nil]; exact hD) hZ hS hA [0] rfl rfl hU hW⟩ rfl rfl hl.1 rfl (lv_room (Nat.le_of_ble_eq_true rfl)) dX10_init_5 ⟨(Nat.le_of_ble_eq_true rfl), (Nat.le_of_ble_eq_true rfl)⟩) hP hD hS hA [0] [] [0] rfl rfl rfl rfl (by decide) rfl (fun _ => rfl) ?_
  clear hP hD hS
  intro u_1 _ H locs hP hD hS
  refine lv_aload_n hx hb dX10_init_8 rfl (lv_at hl 0 rfl) ?_
  refine lv_iload_n hx hb dX10_init_9 rfl (lv_at hl 1 rfl) ?_
  refine g_putF hx hb hts S.2.2.2.1 hK hP hD hS in_X11 tyX11 tyX11_ok nmX11 0 rfl rfl 0 (by decide) q1318 (fun _ h9 => h9) rfl hin rfl (v := .int p0) rfl rfl rfl (Nat.le_of_ble_eq_true rfl) (w' := [(o, .inr (10, [.int p0, .null, .null, .null, .null, .null, .int (0 : Int32)]))]) rfl dX10_init_10 ?_
  clear hP hD hS
  intro H locs hP hD hS
  refine W.widen (k := 0) (n := 0) (Nat.le_of_ble_eq_true rfl) (Nat.le_of_ble_eq_true rfl) ?_
  exact hret0 (fun _ => 0) trivial _ _ _ _ dX10_init_13 hP hD hS
set_option maxHeartbeats 4000000 in
set_option maxRecDepth 100000 in
theorem tX11_initn (l : Launch) (D : va_G) (d : Nat → ClassId) (z : ZT) (o : Nat) (p0 : Int32) : CVS l yX11_init (ws_ yX11_init cX11_init 2 (Option.none : Option Jvm.ClassFile.FieldType)) (rmc 4 0 0 82) D d z [.ref o, .int p0] ([(o, .inr (10, [.int (0 : Int32), .null, .null, .null, .null, .null, .int (0 : Int32)]))]) (fun u : UU => [(o, .inr (10, [.int p0, .null, .null, .null, .null, .null, .int (0 : Int32)]))]) (fun _ => True) := by
  refine CVS.of (rt := .int) (own := RX11) rfl (by decide) (Nat.le_of_ble_eq_true rfl) ?_
  intro p e s m args below meth c A Q ls S hin hK hP hD hZ hS hA hl hret0
  have hx := S.1
  have hb := S.2.1
  have hts := S.2.2.2.2
  have hl : lv_has ls 2 [(0, .ref o), (1, .int p0)] := hl
  refine lv_aload_n hx hb dX11_init_0 rfl (lv_at hl 0 rfl) ?_
  refine lv_iload_n hx hb dX11_init_1 rfl (lv_at hl 1 rfl) ?_
  refine lv_null hx hb dX11_init_2 ?_
  refine run_vS0 (wr := []) (w' := fun u : UU => [(o, .inr (10, [.int p0, .null, .null, .null, .null, .null, .int (0 : Int32)]))]) (va_runI (As := [.int p0, .null]) (rest := []) S (tX10_init_X11n l D d z o p0 _) (cwI 2 hts (lw_meth q1316) rfl rfl rfl (hts _ q122) (hts _ q1314) (hts _ q1315) rfl (by decide +kernel) ⟨(Nat.le_of_ble_eq_true rfl), (Nat.le_of_ble_eq_true rfl)⟩) ⟨Pw.blind, fun U hU hW => Pw.cut (tl := []) hK (by rw [List.append_nil]; exact hP) (by rw [List.append_nil]; exact hD) hZ hS hA [0] rfl rfl hU hW⟩ rfl rfl hl.1 rfl (lv_room (Nat.le_of_ble_eq_true rfl)) dX11_init_3 ⟨(Nat.le_of_ble_eq_true rfl), (Nat.le_of_ble_eq_true rfl)⟩) hP hD hS hA [0] [] [0] rfl rfl rfl rfl (by decide) rfl (fun _ => rfl) ?_
  clear hP hD hS
  intro u_1 _ H locs hP hD hS
  refine W.widen (k := 0) (n := 0) (Nat.le_of_ble_eq_true rfl) (Nat.le_of_ble_eq_true rfl) ?_
  exact hret0 (fun _ => 0) trivial _ _ _ _ dX11_init_6 hP hD hS
set_option maxHeartbeats 4000000 in
set_option maxRecDepth 100000 in
theorem tJ11_init_2_X12n (l : Launch) (D : va_G) (d : Nat → ClassId) (z : ZT) (o : Nat) : CVS l yJ11_init_2 (ws_ yJ11_init_2 cJ11_init_2 5 (Option.none : Option Jvm.ClassFile.FieldType)) (rmc 1 0 0 12) D d z [.ref o, .null, .null, .int (0 : Int32), .int (0 : Int32)] ([(o, .inr (11, [.int (0 : Int32), .null, .null, .null, .null, .null, .int (0 : Int32)]))]) (fun u : UU => [(o, .inr (11, [.int (0 : Int32), .null, .null, .null, .null, .null, .int (0 : Int32)]))]) (fun _ => True) := by
  refine CVS.of (rt := .int) (own := RJ11) rfl (by decide) (Nat.le_of_ble_eq_true rfl) ?_
  intro p e s m args below meth c A Q ls S hin hK hP hD hZ hS hA hl hret0
  have hx := S.1
  have hb := S.2.1
  have hts := S.2.2.2.2
  have hl : lv_has ls 5 [(0, .ref o), (1, .null), (2, .null), (3, .int (0 : Int32)), (4, .int (0 : Int32))] := hl
  refine lv_aload_n hx hb dJ11_init_2_0 rfl (lv_at hl 0 rfl) ?_
  refine W.objInit hx hb S.2.2.2.1 (hts _ q703) (hts _ q136) (hts _ q137) rfl (by rw [S.2.2.1]; exact hl.1) rfl dJ11_init_2_1 (Nat.le_of_ble_eq_true rfl) (Nat.le_of_ble_eq_true rfl) ?_
  refine W.eq (g2 := F0 m 4 ls []) rfl ?_
  refine lv_aload_n hx hb dJ11_init_2_4 rfl (lv_at hl 0 rfl) ?_
  refine lv_aload_n hx hb dJ11_init_2_5 rfl (lv_at hl 0 rfl) ?_
  refine g_put hx hb hts S.2.2.2.1 hK hP hD hS in_X12 tyX12 tyX12_ok nmX12 0 rfl rfl 1 (by decide) q738 (fun _ h9 => h9) rfl (v := .ref o) rfl rfl rfl (Nat.le_of_ble_eq_true rfl) (w' := [(o, .inr (11, [.int (0 : Int32), .ref o, .null, .null, .null, .null, .int (0 : Int32)]))]) rfl dJ11_init_2_6 ?_
  clear hP hD hS
  intro H locs hP hD hS
  refine lv_aload_n hx hb dJ11_init_2_9 rfl (lv_at hl 0 rfl) ?_
  rcases hZ.2.1 with hsi | ⟨ts_1, hsi⟩
  · refine va_gets hx hb hsi hS S.2.2.2.1 (hts _ q704) (fun _ h9 => h9) dJ11_init_2_10 ?_
    refine g_put hx hb hts S.2.2.2.1 hK hP hD hS in_X12 tyX12 tyX12_ok nmX12 0 rfl rfl 2 (by decide) q739 (fun _ h9 => h9) rfl (v := .null) rfl rfl rfl (Nat.le_of_ble_eq_true rfl) (w' := [(o, .inr (11, [.int (0 : Int32), .ref o, .null, .null, .null, .null, .int (0 : Int32)]))]) rfl dJ11_init_2_13 ?_
    clear hP hD hS
    intro H locs hP hD hS
    refine lv_aload_n hx hb dJ11_init_2_16 rfl (lv_at hl 0 rfl) ?_
    rcases hZ.2.2.1 with hsi | ⟨ts_2, hsi⟩
    · refine va_gets hx hb hsi hS S.2.2.2.1 (hts _ q706) (fun _ h9 => h9) dJ11_init_2_17 ?_
      refine g_put hx hb hts S.2.2.2.1 hK hP hD hS in_X12 tyX12 tyX12_ok nmX12 0 rfl rfl 3 (by decide) q740 (fun _ h9 => h9) rfl (v := .null) rfl rfl rfl (Nat.le_of_ble_eq_true rfl) (w' := [(o, .inr (11, [.int (0 : Int32), .ref o, .null, .null, .null, .null, .int (0 : Int32)]))]) rfl dJ11_init_2_20 ?_
      clear hP hD hS
      intro H locs hP hD hS
      refine lv_iload hx hb dJ11_init_2_23 (lv_at hl 4 rfl) ?_
      refine lv_if_eq (tgt := 36) hx hb dJ11_init_2_25 (by decide) (fun hc => ?_) (fun hc => absurd (by decide) hc)
      clear hc
      refine lv_aload_n hx hb dJ11_init_2_36 rfl (lv_at hl 0 rfl) ?_
      refine lv_null hx hb dJ11_init_2_37 ?_
      refine g_put hx hb hts S.2.2.2.1 hK hP hD hS in_X12 tyX12 tyX12_ok nmX12 0 rfl rfl 2 (by decide) q739 (fun _ h9 => h9) rfl (v := .null) rfl rfl rfl (Nat.le_of_ble_eq_true rfl) (w' := [(o, .inr (11, [.int (0 : Int32), .ref o, .null, .null, .null, .null, .int (0 : Int32)]))]) rfl dJ11_init_2_38 ?_
      clear hP hD hS
      intro H locs hP hD hS
      refine lv_aload_n hx hb dJ11_init_2_41 rfl (lv_at hl 0 rfl) ?_
      refine lv_aload_nN hx hb dJ11_init_2_42 rfl (lv_at hl 1 rfl) ?_
      refine g_put hx hb hts S.2.2.2.1 hK hP hD hS in_X12 tyX12 tyX12_ok nmX12 0 rfl rfl 4 (by decide) q737 (fun _ h9 => h9) rfl (v := .null) rfl rfl rfl (Nat.le_of_ble_eq_true rfl) (w' := [(o, .inr (11, [.int (0 : Int32), .ref o, .null, .null, .null, .null, .int (0 : Int32)]))]) rfl dJ11_init_2_43 ?_
      clear hP hD hS
      intro H locs hP hD hS
      refine lv_aload_n hx hb dJ11_init_2_46 rfl (lv_at hl 0 rfl) ?_
      refine lv_aload_nN hx hb dJ11_init_2_47 rfl (lv_at hl 2 rfl) ?_
      refine g_put hx hb hts S.2.2.2.1 hK hP hD hS in_X12 tyX12 tyX12_ok nmX12 0 rfl rfl 1 (by decide) q738 (fun _ h9 => h9) rfl (v := .null) rfl rfl rfl (Nat.le_of_ble_eq_true rfl) (w' := [(o, .inr (11, [.int (0 : Int32), .null, .null, .null, .null, .null, .int (0 : Int32)]))]) rfl dJ11_init_2_48 ?_
      clear hP hD hS
      intro H locs hP hD hS
      refine lv_iload_n hx hb dJ11_init_2_51 rfl (lv_at hl 3 rfl) ?_
      refine lv_if_ne (tgt := 60) hx hb dJ11_init_2_52 (by decide) (fun hc => absurd hc (by decide)) (fun hc => ?_)
      clear hc
      refine lv_aload_n hx hb dJ11_init_2_55 rfl (lv_at hl 0 rfl) ?_
      refine lv_null hx hb dJ11_init_2_56 ?_
      refine g_put hx hb hts S.2.2.2.1 hK hP hD hS in_X12 tyX12 tyX12_ok nmX12 0 rfl rfl 3 (by decide) q740 (fun _ h9 => h9) rfl (v := .null) rfl rfl rfl (Nat.le_of_ble_eq_true rfl) (w' := [(o, .inr (11, [.int (0 : Int32), .null, .null, .null, .null, .null, .int (0 : Int32)]))]) rfl dJ11_init_2_57 ?_
      clear hP hD hS
      intro H locs hP hD hS
      refine W.widen (k := 0) (n := 0) (Nat.le_of_ble_eq_true rfl) (Nat.le_of_ble_eq_true rfl) ?_
      exact hret0 (fun _ => 0) trivial _ _ _ _ dJ11_init_2_60 hP hD hS
    · refine va_gets hx hb hsi hS S.2.2.2.1 (hts _ q706) (fun _ h9 => h9) dJ11_init_2_17 ?_
      refine g_put hx hb hts S.2.2.2.1 hK hP hD hS in_X12 tyX12 tyX12_ok nmX12 0 rfl rfl 3 (by decide) q740 (fun _ h9 => h9) rfl (v := .ref ts_2) rfl rfl rfl (Nat.le_of_ble_eq_true rfl) (w' := [(o, .inr (11, [.int (0 : Int32), .ref o, .null, .ref ts_2, .null, .null, .int (0 : Int32)]))]) rfl dJ11_init_2_20 ?_
      clear hP hD hS
      intro H locs hP hD hS
      refine lv_iload hx hb dJ11_init_2_23 (lv_at hl 4 rfl) ?_
      refine lv_if_eq (tgt := 36) hx hb dJ11_init_2_25 (by decide) (fun hc => ?_) (fun hc => absurd (by decide) hc)
      clear hc
      refine lv_aload_n hx hb dJ11_init_2_36 rfl (lv_at hl 0 rfl) ?_
      refine lv_null hx hb dJ11_init_2_37 ?_
      refine g_put hx hb hts S.2.2.2.1 hK hP hD hS in_X12 tyX12 tyX12_ok nmX12 0 rfl rfl 2 (by decide) q739 (fun _ h9 => h9) rfl (v := .null) rfl rfl rfl (Nat.le_of_ble_eq_true rfl) (w' := [(o, .inr (11, [.int (0 : Int32), .ref o, .null, .ref ts_2, .null, .null, .int (0 : Int32)]))]) rfl dJ11_init_2_38 ?_
      clear hP hD hS
      intro H locs hP hD hS
      refine lv_aload_n hx hb dJ11_init_2_41 rfl (lv_at hl 0 rfl) ?_
      refine lv_aload_nN hx hb dJ11_init_2_42 rfl (lv_at hl 1 rfl) ?_
      refine g_put hx hb hts S.2.2.2.1 hK hP hD hS in_X12 tyX12 tyX12_ok nmX12 0 rfl rfl 4 (by decide) q737 (fun _ h9 => h9) rfl (v := .null) rfl rfl rfl (Nat.le_of_ble_eq_true rfl) (w' := [(o, .inr (11, [.int (0 : Int32), .ref o, .null, .ref ts_2, .null, .null, .int (0 : Int32)]))]) rfl dJ11_init_2_43 ?_
      clear hP hD hS
      intro H locs hP hD hS
      refine lv_aload_n hx hb dJ11_init_2_46 rfl (lv_at hl 0 rfl) ?_
      refine lv_aload_nN hx hb dJ11_init_2_47 rfl (lv_at hl 2 rfl) ?_
      refine g_put hx hb hts S.2.2.2.1 hK hP hD hS in_X12 tyX12 tyX12_ok nmX12 0 rfl rfl 1 (by decide) q738 (fun _ h9 => h9) rfl (v := .null) rfl rfl rfl (Nat.le_of_ble_eq_true rfl) (w' := [(o, .inr (11, [.int (0 : Int32), .null, .null, .ref ts_2, .null, .null, .int (0 : Int32)]))]) rfl dJ11_init_2_48 ?_
      clear hP hD hS
      intro H locs hP hD hS
      refine lv_iload_n hx hb dJ11_init_2_51 rfl (lv_at hl 3 rfl) ?_
      refine lv_if_ne (tgt := 60) hx hb dJ11_init_2_52 (by decide) (fun hc => absurd hc (by decide)) (fun hc => ?_)
      clear hc
      refine lv_aload_n hx hb dJ11_init_2_55 rfl (lv_at hl 0 rfl) ?_
      refine lv_null hx hb dJ11_init_2_56 ?_
      refine g_put hx hb hts S.2.2.2.1 hK hP hD hS in_X12 tyX12 tyX12_ok nmX12 0 rfl rfl 3 (by decide) q740 (fun _ h9 => h9) rfl (v := .null) rfl rfl rfl (Nat.le_of_ble_eq_true rfl) (w' := [(o, .inr (11, [.int (0 : Int32), .null, .null, .null, .null, .null, .int (0 : Int32)]))]) rfl dJ11_init_2_57 ?_
      clear hP hD hS
      intro H locs hP hD hS
      refine W.widen (k := 0) (n := 0) (Nat.le_of_ble_eq_true rfl) (Nat.le_of_ble_eq_true rfl) ?_
      exact hret0 (fun _ => 0) trivial _ _ _ _ dJ11_init_2_60 hP hD hS
  · refine va_gets hx hb hsi hS S.2.2.2.1 (hts _ q704) (fun _ h9 => h9) dJ11_init_2_10 ?_
    refine g_put hx hb hts S.2.2.2.1 hK hP hD hS in_X12 tyX12 tyX12_ok nmX12 0 rfl rfl 2 (by decide) q739 (fun _ h9 => h9) rfl (v := .ref ts_1) rfl rfl rfl (Nat.le_of_ble_eq_true rfl) (w' := [(o, .inr (11, [.int (0 : Int32), .ref o, .ref ts_1, .null, .null, .null, .int (0 : Int32)]))]) rfl dJ11_init_2_13 ?_
    clear hP hD hS
    intro H locs hP hD hS
    refine lv_aload_n hx hb dJ11_init_2_16 rfl (lv_at hl 0 rfl) ?_
    rcases hZ.2.2.1 with hsi | ⟨ts_2, hsi⟩
    · refine va_gets hx hb hsi hS S.2.2.2.1 (hts _ q706) (fun _ h9 => h9) dJ11_init_2_17 ?_
      refine g_put hx hb hts S.2.2.2.1 hK hP hD hS in_X12 tyX12 tyX12_ok nmX12 0 rfl rfl 3 (by decide) q740 (fun _ h9 => h9) rfl (v := .null) rfl rfl rfl (Nat.le_of_ble_eq_true rfl) (w' := [(o, .inr (11, [.int (0 : Int32), .ref o, .ref ts_1, .null, .null, .null, .int (0 : Int32)]))]) rfl dJ11_init_2_20 ?_
      clear hP hD hS
      intro H locs hP hD hS
      refine lv_iload hx hb dJ11_init_2_23 (lv_at hl 4 rfl) ?_
      refine lv_if_eq (tgt := 36) hx hb dJ11_init_2_25 (by decide) (fun hc => ?_) (fun hc => absurd (by decide) hc)
      clear hc
      refine lv_aload_n hx hb dJ11_init_2_36 rfl (lv_at hl 0 rfl) ?_
      refine lv_null hx hb dJ11_init_2_37 ?_
      refine g_put hx hb hts S.2.2.2.1 hK hP hD hS in_X12 tyX12 tyX12_ok nmX12 0 rfl rfl 2 (by decide) q739 (fun _ h9 => h9) rfl (v := .null) rfl rfl rfl (Nat.le_of_ble_eq_true rfl) (w' := [(o, .inr (11, [.int (0 : Int32), .ref o, .null, .null, .null, .null, .int (0 : Int32)]))]) rfl dJ11_init_2_38 ?_
      clear hP hD hS
      intro H locs hP hD hS
      refine lv_aload_n hx hb dJ11_init_2_41 rfl (lv_at hl 0 rfl) ?_
      refine lv_aload_nN hx hb dJ11_init_2_42 rfl (lv_at hl 1 rfl) ?_
      refine g_put hx hb hts S.2.2.2.1 hK hP hD hS in_X12 tyX12 tyX12_ok nmX12 0 rfl rfl 4 (by decide) q737 (fun _ h9 => h9) rfl (v := .null) rfl rfl rfl (Nat.le_of_ble_eq_true rfl) (w' := [(o, .inr (11, [.int (0 : Int32), .ref o, .null, .null, .null, .null, .int (0 : Int32)]))]) rfl dJ11_init_2_43 ?_
      clear hP hD hS
      intro H locs hP hD hS
      refine lv_aload_n hx hb dJ11_init_2_46 rfl (lv_at hl 0 rfl) ?_
      refine lv_aload_nN hx hb dJ11_init_2_47 rfl (lv_at hl 2 rfl) ?_
      refine g_put hx hb hts S.2.2.2.1 hK hP hD hS in_X12 tyX12 tyX12_ok nmX12 0 rfl rfl 1 (by decide) q738 (fun _ h9 => h9) rfl (v := .null) rfl rfl rfl (Nat.le_of_ble_eq_true rfl) (w' := [(o, .inr (11, [.int (0 : Int32), .null, .null, .null, .null, .null, .int (0 : Int32)]))]) rfl dJ11_init_2_48 ?_
      clear hP hD hS
      intro H locs hP hD hS
      refine lv_iload_n hx hb dJ11_init_2_51 rfl (lv_at hl 3 rfl) ?_
      refine lv_if_ne (tgt := 60) hx hb dJ11_init_2_52 (by decide) (fun hc => absurd hc (by decide)) (fun hc => ?_)
      clear hc
      refine lv_aload_n hx hb dJ11_init_2_55 rfl (lv_at hl 0 rfl) ?_
      refine lv_null hx hb dJ11_init_2_56 ?_
      refine g_put hx hb hts S.2.2.2.1 hK hP hD hS in_X12 tyX12 tyX12_ok nmX12 0 rfl rfl 3 (by decide) q740 (fun _ h9 => h9) rfl (v := .null) rfl rfl rfl (Nat.le_of_ble_eq_true rfl) (w' := [(o, .inr (11, [.int (0 : Int32), .null, .null, .null, .null, .null, .int (0 : Int32)]))]) rfl dJ11_init_2_57 ?_
      clear hP hD hS
      intro H locs hP hD hS
      refine W.widen (k := 0) (n := 0) (Nat.le_of_ble_eq_true rfl) (Nat.le_of_ble_eq_true rfl) ?_
      exact hret0 (fun _ => 0) trivial _ _ _ _ dJ11_init_2_60 hP hD hS
    · refine va_gets hx hb hsi hS S.2.2.2.1 (hts _ q706) (fun _ h9 => h9) dJ11_init_2_17 ?_
      refine g_put hx hb hts S.2.2.2.1 hK hP hD hS in_X12 tyX12 tyX12_ok nmX12 0 rfl rfl 3 (by decide) q740 (fun _ h9 => h9) rfl (v := .ref ts_2) rfl rfl rfl (Nat.le_of_ble_eq_true rfl) (w' := [(o, .inr (11, [.int (0 : Int32), .ref o, .ref ts_1, .ref ts_2, .null, .null, .int (0 : Int32)]))]) rfl dJ11_init_2_20 ?_
      clear hP hD hS
      intro H locs hP hD hS
      refine lv_iload hx hb dJ11_init_2_23 (lv_at hl 4 rfl) ?_
      refine lv_if_eq (tgt := 36) hx hb dJ11_init_2_25 (by decide) (fun hc => ?_) (fun hc => absurd (by decide) hc)
      clear hc
      refine lv_aload_n hx hb dJ11_init_2_36 rfl (lv_at hl 0 rfl) ?_
      refine lv_null hx hb dJ11_init_2_37 ?_
      refine g_put hx hb hts S.2.2.2.1 hK hP hD hS in_X12 tyX12 tyX12_ok nmX12 0 rfl rfl 2 (by decide) q739 (fun _ h9 => h9) rfl (v := .null) rfl rfl rfl (Nat.le_of_ble_eq_true rfl) (w' := [(o, .inr (11, [.int (0 : Int32), .ref o, .null, .ref ts_2, .null, .null, .int (0 : Int32)]))]) rfl dJ11_init_2_38 ?_
      clear hP hD hS
      intro H locs hP hD hS
      refine lv_aload_n hx hb dJ11_init_2_41 rfl (lv_at hl 0 rfl) ?_
      refine lv_aload_nN hx hb dJ11_init_2_42 rfl (lv_at hl 1 rfl) ?_
      refine g_put hx hb hts S.2.2.2.1 hK hP hD hS in_X12 tyX12 tyX12_ok nmX12 0 rfl rfl 4 (by decide) q737 (fun _ h9 => h9) rfl (v := .null) rfl rfl rfl (Nat.le_of_ble_eq_true rfl) (w' := [(o, .inr (11, [.int (0 : Int32), .ref o, .null, .ref ts_2, .null, .null, .int (0 : Int32)]))]) rfl dJ11_init_2_43 ?_
      clear hP hD hS
      intro H locs hP hD hS
      refine lv_aload_n hx hb dJ11_init_2_46 rfl (lv_at hl 0 rfl) ?_
      refine lv_aload_nN hx hb dJ11_init_2_47 rfl (lv_at hl 2 rfl) ?_
      refine g_put hx hb hts S.2.2.2.1 hK hP hD hS in_X12 tyX12 tyX12_ok nmX12 0 rfl rfl 1 (by decide) q738 (fun _ h9 => h9) rfl (v := .null) rfl rfl rfl (Nat.le_of_ble_eq_true rfl) (w' := [(o, .inr (11, [.int (0 : Int32), .null, .null, .ref ts_2, .null, .null, .int (0 : Int32)]))]) rfl dJ11_init_2_48 ?_
      clear hP hD hS
      intro H locs hP hD hS
      refine lv_iload_n hx hb dJ11_init_2_51 rfl (lv_at hl 3 rfl) ?_
      refine lv_if_ne (tgt := 60) hx hb dJ11_init_2_52 (by decide) (fun hc => absurd hc (by decide)) (fun hc => ?_)
      clear hc
      refine lv_aload_n hx hb dJ11_init_2_55 rfl (lv_at hl 0 rfl) ?_
      refine lv_null hx hb dJ11_init_2_56 ?_
      refine g_put hx hb hts S.2.2.2.1 hK hP hD hS in_X12 tyX12 tyX12_ok nmX12 0 rfl rfl 3 (by decide) q740 (fun _ h9 => h9) rfl (v := .null) rfl rfl rfl (Nat.le_of_ble_eq_true rfl) (w' := [(o, .inr (11, [.int (0 : Int32), .null, .null, .null, .null, .null, .int (0 : Int32)]))]) rfl dJ11_init_2_57 ?_
      clear hP hD hS
      intro H locs hP hD hS
      refine W.widen (k := 0) (n := 0) (Nat.le_of_ble_eq_true rfl) (Nat.le_of_ble_eq_true rfl) ?_
      exact hret0 (fun _ => 0) trivial _ _ _ _ dJ11_init_2_60 hP hD hS
set_option maxHeartbeats 4000000 in
set_option maxRecDepth 100000 in
theorem tJ12_init_X12n (l : Launch) (D : va_G) (d : Nat → ClassId) (z : ZT) (o : Nat) : CVS l yJ12_init (ws_ yJ12_init cJ12_init 5 (Option.none : Option Jvm.ClassFile.FieldType)) (rmc 2 0 0 36) D d z [.ref o, .null, .null, .int (0 : Int32), .int (0 : Int32)] ([(o, .inr (11, [.int (0 : Int32), .null, .null, .null, .null, .null, .int (0 : Int32)]))]) (fun u : UU => [(o, .inr (11, [.int (0 : Int32), .null, .null, .null, .null, .null, .int (0 : Int32)]))]) (fun _ => True) := by
  refine CVS.of (rt := .int) (own := RJ12) rfl (by decide) (Nat.le_of_ble_eq_true rfl) ?_
  intro p e s m args below meth c A Q ls S hin hK hP hD hZ hS hA hl hret0
  have hx := S.1
  have hb := S.2.1
  have hts := S.2.2.2.2
  have hl : lv_has ls 5 [(0, .ref o), (1, .null), (2, .null), (3, .int (0 : Int32)), (4, .int (0 : Int32))] := hl
  refine lv_aload_n hx hb dJ12_init_0 rfl (lv_at hl 0 rfl) ?_
  refine lv_aload_nN hx hb dJ12_init_1 rfl (lv_at hl 1 rfl) ?_
  refine lv_aload_nN hx hb dJ12_init_2 rfl (lv_at hl 2 rfl) ?_
  refine lv_iload_n hx hb dJ12_init_3 rfl (lv_at hl 3 rfl) ?_
  refine lv_iload hx hb dJ12_init_4 (lv_at hl 4 rfl) ?_
  refine run_vS0 (wr := []) (w' := fun u : UU => [(o, .inr (11, [.int (0 : Int32), .null, .null, .null, .null, .null, .int (0 : Int32)]))]) (va_runI (As := [.null, .null, .int (0 : Int32), .int (0 : Int32)]) (rest := []) S (tJ11_init_2_X12n l D d z o _) (cwI 4 hts (lw_meth q731) rfl rfl rfl (hts _ q113) (hts _ q729) (hts _ q730) rfl (by decide +kernel) ⟨(Nat.le_of_ble_eq_true rfl), (Nat.le_of_ble_eq_true rfl)⟩) ⟨Pw.blind, fun U hU hW => Pw.cut (tl := []) hK (by rw [List.append_nil]; exact hP) (by rw [List.append_nil]; exact hD) hZ hS hA [0] rfl rfl hU hW⟩ rfl rfl hl.1 rfl (lv_room (Nat.le_of_ble_eq_true rfl)) dJ12_init_6 ⟨(Nat.le_of_ble_eq_true rfl), (Nat.le_of_ble_eq_true rfl)⟩) hP hD hS hA [0] [] [0] rfl rfl rfl rfl (by decide) rfl (fun _ => rfl) ?_
  clear hP hD hS
  intro u_1 _ H locs hP hD hS
  refine W.widen (k := 0) (n := 0) (Nat.le_of_ble_eq_true rfl) (Nat.le_of_ble_eq_true rfl) ?_
  exact hret0 (fun _ => 0) trivial _ _ _ _ dJ12_init_9 hP hD hS
set_option maxHeartbeats 4000000 in
set_option maxRecDepth 100000 in
theorem tX10_init_X12n (l : Launch) (D : va_G) (d : Nat → ClassId) (z : ZT) (o : Nat) (p0 : Int32) : CVS l yX10_init (ws_ yX10_init cX10_init 3 (Option.none : Option Jvm.ClassFile.FieldType)) (rmc 3 0 0 60) D d z [.ref o, .int p0, .null] ([(o, .inr (11, [.int (0 : Int32), .null, .null, .null, .null, .null, .int (0 : Int32)]))]) (fun u : UU => [(o, .inr (11, [.int p0, .null, .null, .null, .null, .null, .int (0 : Int32)]))]) (fun _ => True) := by
  refine CVS.of (rt := .int) (own := RX10) rfl (by decide) (Nat.le_of_ble_eq_true rfl) ?_
  intro p e s m args below meth c A Q ls S hin hK hP hD hZ hS hA hl hret0
  have hx := S.1
  have hb := S.2.1
  have hts := S.2.2.2.2
  have hl : lv_has ls 3 [(0, .ref o), (1, .int p0), (2, .null)] := hl
  refine lv_aload_n hx hb dX10_init_0 rfl (lv_at hl 0 rfl) ?_
  refine lv_null hx hb dX10_init_1 ?_
  refine lv_aload_nN hx hb dX10_init_2 rfl (lv_at hl 2 rfl) ?_
  refine lv_iconst (v := 0) hx hb dX10_init_3 (by decide) ?_
  refine lv_iconst (v := 0) hx hb dX10_init_4 (by decide) ?_
  refine run_vS0 (wr := []) (w' := fun u : UU => [(o, .inr (11, [.int (0 : Int32), .null, .null, .null, .null, .null, .int (0 : Int32)]))]) (va_runI (As := [.null, .null, .int (0 : Int32), .int (0 : Int32)]) (rest := []) S (tJ12_init_X12n l D d z o _) (cwI 4 hts (lw_meth q728) rfl rfl rfl (hts _ q114) (hts _ q1317) (hts _ q727) rfl (by decide +kernel) ⟨(Nat.le_of_ble_eq_true rfl), (Nat.le_of_ble_eq_true rfl)⟩) ⟨Pw.blind, fun U hU hW => Pw.cut (tl := []) hK (by rw [List.append_nil]; exact hP) (by rw [List.append_nil]; exact hD) hZ hS hA [0] rfl rfl hU hW⟩ rfl rfl hl.1 rfl (lv_room (Nat.le_of_ble_eq_true rfl)) dX10_init_5 ⟨(Nat.le_of_ble_eq_true rfl), (Nat.le_of_ble_eq_true rfl)⟩) hP hD hS hA [0] [] [0] rfl rfl rfl rfl (by decide) rfl (fun _ => rfl) ?_
  clear hP hD hS
  intro u_1 _ H locs hP hD hS
  refine lv_aload_n hx hb dX10_init_8 rfl (lv_at hl 0 rfl) ?_
  refine lv_iload_n hx hb dX10_init_9 rfl (lv_at hl 1 rfl) ?_
  refine g_putF hx hb hts S.2.2.2.1 hK hP hD hS in_X12 tyX12 tyX12_ok nmX12 0 rfl rfl 0 (by decide) q1318 (fun _ h9 => h9) rfl hin rfl (v := .int p0) rfl rfl rfl (Nat.le_of_ble_eq_true rfl) (w' := [(o, .inr (11, [.int p0, .null, .null, .null, .null, .null, .int (0 : Int32)]))]) rfl dX10_init_10 ?_
  clear hP hD hS
  intro H locs hP hD hS
  refine W.widen (k := 0) (n := 0) (Nat.le_of_ble_eq_true rfl) (Nat.le_of_ble_eq_true rfl) ?_
  exact hret0 (fun _ => 0) trivial _ _ _ _ dX10_init_13 hP hD hS
set_option maxHeartbeats 4000000 in
set_option maxRecDepth 100000 in
theorem tX12_initn (l : Launch) (D : va_G) (d : Nat → ClassId) (z : ZT) (o : Nat) (p0 : Int32) : CVS l yX12_init (ws_ yX12_init cX12_init 3 (Option.none : Option Jvm.ClassFile.FieldType)) (rmc 4 0 0 82) D d z [.ref o, .int p0, .null] ([(o, .inr (11, [.int (0 : Int32), .null, .null, .null, .null, .null, .int (0 : Int32)]))]) (fun u : UU => [(o, .inr (11, [.int p0, .null, .null, .null, .null, .null, .int (0 : Int32)]))]) (fun _ => True) := by
  refine CVS.of (rt := .int) (own := RX12) rfl (by decide) (Nat.le_of_ble_eq_true rfl) ?_
  intro p e s m args below meth c A Q ls S hin hK hP hD hZ hS hA hl hret0
  have hx := S.1
  have hb := S.2.1
  have hts := S.2.2.2.2
  have hl : lv_has ls 3 [(0, .ref o), (1, .int p0), (2, .null)] := hl
  refine lv_aload_n hx hb dX12_init_0 rfl (lv_at hl 0 rfl) ?_
  refine lv_iload_n hx hb dX12_init_1 rfl (lv_at hl 1 rfl) ?_
  refine lv_aload_nN hx hb dX12_init_2 rfl (lv_at hl 2 rfl) ?_
  refine run_vS0 (wr := []) (w' := fun u : UU => [(o, .inr (11, [.int p0, .null, .null, .null, .null, .null, .int (0 : Int32)]))]) (va_runI (As := [.int p0, .null]) (rest := []) S (tX10_init_X12n l D d z o p0 _) (cwI 2 hts (lw_meth q1316) rfl rfl rfl (hts _ q122) (hts _ q1336) (hts _ q1315) rfl (by decide +kernel) ⟨(Nat.le_of_ble_eq_true rfl), (Nat.le_of_ble_eq_true rfl)⟩) ⟨Pw.blind, fun U hU hW => Pw.cut (tl := []) hK (by rw [List.append_nil]; exact hP) (by rw [List.append_nil]; exact hD) hZ hS hA [0] rfl rfl hU hW⟩ rfl rfl hl.1 rfl (lv_room (Nat.le_of_ble_eq_true rfl)) dX12_init_3 ⟨(Nat.le_of_ble_eq_true rfl), (Nat.le_of_ble_eq_true rfl)⟩) hP hD hS hA [0] [] [0] rfl rfl rfl rfl (by decide) rfl (fun _ => rfl) ?_
  clear hP hD hS
  intro u_1 _ H locs hP hD hS
  refine W.widen (k := 0) (n := 0) (Nat.le_of_ble_eq_true rfl) (Nat.le_of_ble_eq_true rfl) ?_
  exact hret0 (fun _ => 0) trivial _ _ _ _ dX12_init_6 hP hD hS
set_option maxHeartbeats 4000000 in
set_option maxRecDepth 100000 in
theorem tJ11_init_2_X12r (l : Launch) (D : va_G) (d : Nat → ClassId) (z : ZT) (o : Nat) (o1 : Nat) : CVS l yJ11_init_2 (ws_ yJ11_init_2 cJ11_init_2 5 (Option.none : Option Jvm.ClassFile.FieldType)) (rmc 1 0 0 12) D d z [.ref o, .null, .ref o1, .int (0 : Int32), .int (0 : Int32)] ([(o, .inr (11, [.int (0 : Int32), .null, .null, .null, .null, .null, .int (0 : Int32)]))]) (fun u : UU => [(o, .inr (11, [.int (0 : Int32), .ref o1, .null, .null, .null, .null, .int (0 : Int32)]))]) (fun _ => True) := by
  refine CVS.of (rt := .int) (own := RJ11) rfl (by decide) (Nat.le_of_ble_eq_true rfl) ?_
  intro p e s m args below meth c A Q ls S hin hK hP hD hZ hS hA hl hret0
  have hx := S.1
  have hb := S.2.1
  have hts := S.2.2.2.2
  have hl : lv_has ls 5 [(0, .ref o), (1, .null), (2, .ref o1), (3, .int (0 : Int32)), (4, .int (0 : Int32))] := hl
  refine lv_aload_n hx hb dJ11_init_2_0 rfl (lv_at hl 0 rfl) ?_
  refine W.objInit hx hb S.2.2.2.1 (hts _ q703) (hts _ q136) (hts _ q137) rfl (by rw [S.2.2.1]; exact hl.1) rfl dJ11_init_2_1 (Nat.le_of_ble_eq_true rfl) (Nat.le_of_ble_eq_true rfl) ?_
  refine W.eq (g2 := F0 m 4 ls []) rfl ?_
  refine lv_aload_n hx hb dJ11_init_2_4 rfl (lv_at hl 0 rfl) ?_
  refine lv_aload_n hx hb dJ11_init_2_5 rfl (lv_at hl 0 rfl) ?_
  refine g_put hx hb hts S.2.2.2.1 hK hP hD hS in_X12 tyX12 tyX12_ok nmX12 0 rfl rfl 1 (by decide) q738 (fun _ h9 => h9) rfl (v := .ref o) rfl rfl rfl (Nat.le_of_ble_eq_true rfl) (w' := [(o, .inr (11, [.int (0 : Int32), .ref o, .null, .null, .null, .null, .int (0 : Int32)]))]) rfl dJ11_init_2_6 ?_
  clear hP hD hS
  intro H locs hP hD hS
  refine lv_aload_n hx hb dJ11_init_2_9 rfl (lv_at hl 0 rfl) ?_
  rcases hZ.2.1 with hsi | ⟨ts_1, hsi⟩
  · refine va_gets hx hb hsi hS S.2.2.2.1 (hts _ q704) (fun _ h9 => h9) dJ11_init_2_10 ?_
    refine g_put hx hb hts S.2.2.2.1 hK hP hD hS in_X12 tyX12 tyX12_ok nmX12 0 rfl rfl 2 (by decide) q739 (fun _ h9 => h9) rfl (v := .null) rfl rfl rfl (Nat.le_of_ble_eq_true rfl) (w' := [(o, .inr (11, [.int (0 : Int32), .ref o, .null, .null, .null, .null, .int (0 : Int32)]))]) rfl dJ11_init_2_13 ?_
    clear hP hD hS
    intro H locs hP hD hS
    refine lv_aload_n hx hb dJ11_init_2_16 rfl (lv_at hl 0 rfl) ?_
    rcases hZ.2.2.1 with hsi | ⟨ts_2, hsi⟩
    · refine va_gets hx hb hsi hS S.2.2.2.1 (hts _ q706) (fun _ h9 => h9) dJ11_init_2_17 ?_
      refine g_put hx hb hts S.2.2.2.1 hK hP hD hS in_X12 tyX12 tyX12_ok nmX12 0 rfl rfl 3 (by decide) q740 (fun _ h9 => h9) rfl (v := .null) rfl rfl rfl (Nat.le_of_ble_eq_true rfl) (w' := [(o, .inr (11, [.int (0 : Int32), .ref o, .null, .null, .null, .null, .int (0 : Int32)]))]) rfl dJ11_init_2_20 ?_
      clear hP hD hS
      intro H locs hP hD hS
      refine lv_iload hx hb dJ11_init_2_23 (lv_at hl 4 rfl) ?_
      refine lv_if_eq (tgt := 36) hx hb dJ11_init_2_25 (by decide) (fun hc => ?_) (fun hc => absurd (by decide) hc)
      clear hc
      refine lv_aload_n hx hb dJ11_init_2_36 rfl (lv_at hl 0 rfl) ?_
      refine lv_null hx hb dJ11_init_2_37 ?_
      refine g_put hx hb hts S.2.2.2.1 hK hP hD hS in_X12 tyX12 tyX12_ok nmX12 0 rfl rfl 2 (by decide) q739 (fun _ h9 => h9) rfl (v := .null) rfl rfl rfl (Nat.le_of_ble_eq_true rfl) (w' := [(o, .inr (11, [.int (0 : Int32), .ref o, .null, .null, .null, .null, .int (0 : Int32)]))]) rfl dJ11_init_2_38 ?_
      clear hP hD hS
      intro H locs hP hD hS
      refine lv_aload_n hx hb dJ11_init_2_41 rfl (lv_at hl 0 rfl) ?_
      refine lv_aload_nN hx hb dJ11_init_2_42 rfl (lv_at hl 1 rfl) ?_
      refine g_put hx hb hts S.2.2.2.1 hK hP hD hS in_X12 tyX12 tyX12_ok nmX12 0 rfl rfl 4 (by decide) q737 (fun _ h9 => h9) rfl (v := .null) rfl rfl rfl (Nat.le_of_ble_eq_true rfl) (w' := [(o, .inr (11, [.int (0 : Int32), .ref o, .null, .null, .null, .null, .int (0 : Int32)]))]) rfl dJ11_init_2_43 ?_
      clear hP hD hS
      intro H locs hP hD hS
      refine lv_aload_n hx hb dJ11_init_2_46 rfl (lv_at hl 0 rfl) ?_
      refine lv_aload_n hx hb dJ11_init_2_47 rfl (lv_at hl 2 rfl) ?_
      refine g_put hx hb hts S.2.2.2.1 hK hP hD hS in_X12 tyX12 tyX12_ok nmX12 0 rfl rfl 1 (by decide) q738 (fun _ h9 => h9) rfl (v := .ref o1) rfl rfl rfl (Nat.le_of_ble_eq_true rfl) (w' := [(o, .inr (11, [.int (0 : Int32), .ref o1, .null, .null, .null, .null, .int (0 : Int32)]))]) rfl dJ11_init_2_48 ?_
      clear hP hD hS
      intro H locs hP hD hS
      refine lv_iload_n hx hb dJ11_init_2_51 rfl (lv_at hl 3 rfl) ?_
      refine lv_if_ne (tgt := 60) hx hb dJ11_init_2_52 (by decide) (fun hc => absurd hc (by decide)) (fun hc => ?_)
      clear hc
      refine lv_aload_n hx hb dJ11_init_2_55 rfl (lv_at hl 0 rfl) ?_
      refine lv_null hx hb dJ11_init_2_56 ?_
      refine g_put hx hb hts S.2.2.2.1 hK hP hD hS in_X12 tyX12 tyX12_ok nmX12 0 rfl rfl 3 (by decide) q740 (fun _ h9 => h9) rfl (v := .null) rfl rfl rfl (Nat.le_of_ble_eq_true rfl) (w' := [(o, .inr (11, [.int (0 : Int32), .ref o1, .null, .null, .null, .null, .int (0 : Int32)]))]) rfl dJ11_init_2_57 ?_
      clear hP hD hS
      intro H locs hP hD hS
      refine W.widen (k := 0) (n := 0) (Nat.le_of_ble_eq_true rfl) (Nat.le_of_ble_eq_true rfl) ?_
      exact hret0 (fun _ => 0) trivial _ _ _ _ dJ11_init_2_60 hP hD hS
    · refine va_gets hx hb hsi hS S.2.2.2.1 (hts _ q706) (fun _ h9 => h9) dJ11_init_2_17 ?_
      refine g_put hx hb hts S.2.2.2.1 hK hP hD hS in_X12 tyX12 tyX12_ok nmX12 0 rfl rfl 3 (by decide) q740 (fun _ h9 => h9) rfl (v := .ref ts_2) rfl rfl rfl (Nat.le_of_ble_eq_true rfl) (w' := [(o, .inr (11, [.int (0 : Int32), .ref o, .null, .ref ts_2, .null, .null, .int (0 : Int32)]))]) rfl dJ11_init_2_20 ?_
      clear hP hD hS
      intro H locs hP hD hS
      refine lv_iload hx hb dJ11_init_2_23 (lv_at hl 4 rfl) ?_
      refine lv_if_eq (tgt := 36) hx hb dJ11_init_2_25 (by decide) (fun hc => ?_) (fun hc => absurd (by decide) hc)
      clear hc
      refine lv_aload_n hx hb dJ11_init_2_36 rfl (lv_at hl 0 rfl) ?_
      refine lv_null hx hb dJ11_init_2_37 ?_
      refine g_put hx hb hts S.2.2.2.1 hK hP hD hS in_X12 tyX12 tyX12_ok nmX12 0 rfl rfl 2 (by decide) q739 (fun _ h9 => h9) rfl (v := .null) rfl rfl rfl (Nat.le_of_ble_eq_true rfl) (w' := [(o, .inr (11, [.int (0 : Int32), .ref o, .null, .ref ts_2, .null, .null, .int (0 : Int32)]))]) rfl dJ11_init_2_38 ?_
      clear hP hD hS
      intro H locs hP hD hS
      refine lv_aload_n hx hb dJ11_init_2_41 rfl (lv_at hl 0 rfl) ?_
      refine lv_aload_nN hx hb dJ11_init_2_42 rfl (lv_at hl 1 rfl) ?_
      refine g_put hx hb hts S.2.2.2.1 hK hP hD hS in_X12 tyX12 tyX12_ok nmX12 0 rfl rfl 4 (by decide) q737 (fun _ h9 => h9) rfl (v := .null) rfl rfl rfl (Nat.le_of_ble_eq_true rfl) (w' := [(o, .inr (11, [.int (0 : Int32), .ref o, .null, .ref ts_2, .null, .null, .int (0 : Int32)]))]) rfl dJ11_init_2_43 ?_
      clear hP hD hS
      intro H locs hP hD hS
      refine lv_aload_n hx hb dJ11_init_2_46 rfl (lv_at hl 0 rfl) ?_
      refine lv_aload_n hx hb dJ11_init_2_47 rfl (lv_at hl 2 rfl) ?_
      refine g_put hx hb hts S.2.2.2.1 hK hP hD hS in_X12 tyX12 tyX12_ok nmX12 0 rfl rfl 1 (by decide) q738 (fun _ h9 => h9) rfl (v := .ref o1) rfl rfl rfl (Nat.le_of_ble_eq_true rfl) (w' := [(o, .inr (11, [.int (0 : Int32), .ref o1, .null, .ref ts_2, .null, .null, .int (0 : Int32)]))]) rfl dJ11_init_2_48 ?_
      clear hP hD hS
      intro H locs hP hD hS
      refine lv_iload_n hx hb dJ11_init_2_51 rfl (lv_at hl 3 rfl) ?_
      refine lv_if_ne (tgt := 60) hx hb dJ11_init_2_52 (by decide) (fun hc => absurd hc (by decide)) (fun hc => ?_)
      clear hc
      refine lv_aload_n hx hb dJ11_init_2_55 rfl (lv_at hl 0 rfl) ?_
      refine lv_null hx hb dJ11_init_2_56 ?_
      refine g_put hx hb hts S.2.2.2.1 hK hP hD hS in_X12 tyX12 tyX12_ok nmX12 0 rfl rfl 3 (by decide) q740 (fun _ h9 => h9) rfl (v := .null) rfl rfl rfl (Nat.le_of_ble_eq_true rfl) (w' := [(o, .inr (11, [.int (0 : Int32), .ref o1, .null, .null, .null, .null, .int (0 : Int32)]))]) rfl dJ11_init_2_57 ?_
      clear hP hD hS
      intro H locs hP hD hS
      refine W.widen (k := 0) (n := 0) (Nat.le_of_ble_eq_true rfl) (Nat.le_of_ble_eq_true rfl) ?_
      exact hret0 (fun _ => 0) trivial _ _ _ _ dJ11_init_2_60 hP hD hS
  · refine va_gets hx hb hsi hS S.2.2.2.1 (hts _ q704) (fun _ h9 => h9) dJ11_init_2_10 ?_
    refine g_put hx hb hts S.2.2.2.1 hK hP hD hS in_X12 tyX12 tyX12_ok nmX12 0 rfl rfl 2 (by decide) q739 (fun _ h9 => h9) rfl (v := .ref ts_1) rfl rfl rfl (Nat.le_of_ble_eq_true rfl) (w' := [(o, .inr (11, [.int (0 : Int32), .ref o, .ref ts_1, .null, .null, .null, .int (0 : Int32)]))]) rfl dJ11_init_2_13 ?_
    clear hP hD hS
    intro H locs hP hD hS
    refine lv_aload_n hx hb dJ11_init_2_16 rfl (lv_at hl 0 rfl) ?_
    rcases hZ.2.2.1 with hsi | ⟨ts_2, hsi⟩
    · refine va_gets hx hb hsi hS S.2.2.2.1 (hts _ q706) (fun _ h9 => h9) dJ11_init_2_17 ?_
      refine g_put hx hb hts S.2.2.2.1 hK hP hD hS in_X12 tyX12 tyX12_ok nmX12 0 rfl rfl 3 (by decide) q740 (fun _ h9 => h9) rfl (v := .null) rfl rfl rfl (Nat.le_of_ble_eq_true rfl) (w' := [(o, .inr (11, [.int (0 : Int32), .ref o, .ref ts_1, .null, .null, .null, .int (0 : Int32)]))]) rfl dJ11_init_2_20 ?_
      clear hP hD hS
      intro H locs hP hD hS
      refine lv_iload hx hb dJ11_init_2_23 (lv_at hl 4 rfl) ?_
      refine lv_if_eq (tgt := 36) hx hb dJ11_init_2_25 (by decide) (fun hc => ?_) (fun hc => absurd (by decide) hc)
      clear hc
      refine lv_aload_n hx hb dJ11_init_2_36 rfl (lv_at hl 0 rfl) ?_
      refine lv_null hx hb dJ11_init_2_37 ?_
      refine g_put hx hb hts S.2.2.2.1 hK hP hD hS in_X12 tyX12 tyX12_ok nmX12 0 rfl rfl 2 (by decide) q739 (fun _ h9 => h9) rfl (v := .null) rfl rfl rfl (Nat.le_of_ble_eq_true rfl) (w' := [(o, .inr (11, [.int (0 : Int32), .ref o, .null, .null, .null, .null, .int (0 : Int32)]))]) rfl dJ11_init_2_38 ?_
      clear hP hD hS
      intro H locs hP hD hS
      refine lv_aload_n hx hb dJ11_init_2_41 rfl (lv_at hl 0 rfl) ?_
      refine lv_aload_nN hx hb dJ11_init_2_42 rfl (lv_at hl 1 rfl) ?_
      refine g_put hx hb hts S.2.2.2.1 hK hP hD hS in_X12 tyX12 tyX12_ok nmX12 0 rfl rfl 4 (by decide) q737 (fun _ h9 => h9) rfl (v := .null) rfl rfl rfl (Nat.le_of_ble_eq_true rfl) (w' := [(o, .inr (11, [.int (0 : Int32), .ref o, .null, .null, .null, .null, .int (0 : Int32)]))]) rfl dJ11_init_2_43 ?_
      clear hP hD hS
      intro H locs hP hD hS
      refine lv_aload_n hx hb dJ11_init_2_46 rfl (lv_at hl 0 rfl) ?_
      refine lv_aload_n hx hb dJ11_init_2_47 rfl (lv_at hl 2 rfl) ?_
      refine g_put hx hb hts S.2.2.2.1 hK hP hD hS in_X12 tyX12 tyX12_ok nmX12 0 rfl rfl 1 (by decide) q738 (fun _ h9 => h9) rfl (v := .ref o1) rfl rfl rfl (Nat.le_of_ble_eq_true rfl) (w' := [(o, .inr (11, [.int (0 : Int32), .ref o1, .null, .null, .null, .null, .int (0 : Int32)]))]) rfl dJ11_init_2_48 ?_
      clear hP hD hS
      intro H locs hP hD hS
      refine lv_iload_n hx hb dJ11_init_2_51 rfl (lv_at hl 3 rfl) ?_
      refine lv_if_ne (tgt := 60) hx hb dJ11_init_2_52 (by decide) (fun hc => absurd hc (by decide)) (fun hc => ?_)
      clear hc
      refine lv_aload_n hx hb dJ11_init_2_55 rfl (lv_at hl 0 rfl) ?_
      refine lv_null hx hb dJ11_init_2_56 ?_
      refine g_put hx hb hts S.2.2.2.1 hK hP hD hS in_X12 tyX12 tyX12_ok nmX12 0 rfl rfl 3 (by decide) q740 (fun _ h9 => h9) rfl (v := .null) rfl rfl rfl (Nat.le_of_ble_eq_true rfl) (w' := [(o, .inr (11, [.int (0 : Int32), .ref o1, .null, .null, .null, .null, .int (0 : Int32)]))]) rfl dJ11_init_2_57 ?_
      clear hP hD hS
      intro H locs hP hD hS
      refine W.widen (k := 0) (n := 0) (Nat.le_of_ble_eq_true rfl) (Nat.le_of_ble_eq_true rfl) ?_
      exact hret0 (fun _ => 0) trivial _ _ _ _ dJ11_init_2_60 hP hD hS
    · refine va_gets hx hb hsi hS S.2.2.2.1 (hts _ q706) (fun _ h9 => h9) dJ11_init_2_17 ?_
      refine g_put hx hb hts S.2.2.2.1 hK hP hD hS in_X12 tyX12 tyX12_ok nmX12 0 rfl rfl 3 (by decide) q740 (fun _ h9 => h9) rfl (v := .ref ts_2) rfl rfl rfl (Nat.le_of_ble_eq_true rfl) (w' := [(o, .inr (11, [.int (0 : Int32), .ref o, .ref ts_1, .ref ts_2, .null, .null, .int (0 : Int32)]))]) rfl dJ11_init_2_20 ?_
      clear hP hD hS
      intro H locs hP hD hS
      refine lv_iload hx hb dJ11_init_2_23 (lv_at hl 4 rfl) ?_
      refine lv_if_eq (tgt := 36) hx hb dJ11_init_2_25 (by decide) (fun hc => ?_) (fun hc => absurd (by decide) hc)
      clear hc
      refine lv_aload_n hx hb dJ11_init_2_36 rfl (lv_at hl 0 rfl) ?_
      refine lv_null hx hb dJ11_init_2_37 ?_
      refine g_put hx hb hts S.2.2.2.1 hK hP hD hS in_X12 tyX12 tyX12_ok nmX12 0 rfl rfl 2 (by decide) q739 (fun _ h9 => h9) rfl (v := .null) rfl rfl rfl (Nat.le_of_ble_eq_true rfl) (w' := [(o, .inr (11, [.int (0 : Int32), .ref o, .null, .ref ts_2, .null, .null, .int (0 : Int32)]))]) rfl dJ11_init_2_38 ?_
      clear hP hD hS
      intro H locs hP hD hS
      refine lv_aload_n hx hb dJ11_init_2_41 rfl (lv_at hl 0 rfl) ?_
      refine lv_aload_nN hx hb dJ11_init_2_42 rfl (lv_at hl 1 rfl) ?_
      refine g_put hx hb hts S.2.2.2.1 hK hP hD hS in_X12 tyX12 tyX12_ok nmX12 0 rfl rfl 4 (by decide) q737 (fun _ h9 => h9) rfl (v := .null) rfl rfl rfl (Nat.le_of_ble_eq_true rfl) (w' := [(o, .inr (11, [.int (0 : Int32), .ref o, .null, .ref ts_2, .null, .null, .int (0 : Int32)]))]) rfl dJ11_init_2_43 ?_
      clear hP hD hS
      intro H locs hP hD hS
      refine lv_aload_n hx hb dJ11_init_2_46 rfl (lv_at hl 0 rfl) ?_
      refine lv_aload_n hx hb dJ11_init_2_47 rfl (lv_at hl 2 rfl) ?_
      refine g_put hx hb hts S.2.2.2.1 hK hP hD hS in_X12 tyX12 tyX12_ok nmX12 0 rfl rfl 1 (by decide) q738 (fun _ h9 => h9) rfl (v := .ref o1) rfl rfl rfl (Nat.le_of_ble_eq_true rfl) (w' := [(o, .inr (11, [.int (0 : Int32), .ref o1, .null, .ref ts_2, .null, .null, .int (0 : Int32)]))]) rfl dJ11_init_2_48 ?_
      clear hP hD hS
      intro H locs hP hD hS
      refine lv_iload_n hx hb dJ11_init_2_51 rfl (lv_at hl 3 rfl) ?_
      refine lv_if_ne (tgt := 60) hx hb dJ11_init_2_52 (by decide) (fun hc => absurd hc (by decide)) (fun hc => ?_)
      clear hc
      refine lv_aload_n hx hb dJ11_init_2_55 rfl (lv_at hl 0 rfl) ?_
      refine lv_null hx hb dJ11_init_2_56 ?_
      refine g_put hx hb hts S.2.2.2.1 hK hP hD hS in_X12 tyX12 tyX12_ok nmX12 0 rfl rfl 3 (by decide) q740 (fun _ h9 => h9) rfl (v := .null) rfl rfl rfl (Nat.le_of_ble_eq_true rfl) (w' := [(o, .inr (11, [.int (0 : Int32), .ref o1, .null, .null, .null, .null, .int (0 : Int32)]))]) rfl dJ11_init_2_57 ?_
      clear hP hD hS
      intro H locs hP hD hS
      refine W.widen (k := 0) (n := 0) (Nat.le_of_ble_eq_true rfl) (Nat.le_of_ble_eq_true rfl) ?_
      exact hret0 (fun _ => 0) trivial _ _ _ _ dJ11_init_2_60 hP hD hS
set_option maxHeartbeats 4000000 in
set_option maxRecDepth 100000 in
theorem tJ12_init_X12r (l : Launch) (D : va_G) (d : Nat → ClassId) (z : ZT) (o : Nat) (o1 : Nat) : CVS l yJ12_init (ws_ yJ12_init cJ12_init 5 (Option.none : Option Jvm.ClassFile.FieldType)) (rmc 2 0 0 36) D d z [.ref o, .null, .ref o1, .int (0 : Int32), .int (0 : Int32)] ([(o, .inr (11, [.int (0 : Int32), .null, .null, .null, .null, .null, .int (0 : Int32)]))]) (fun u : UU => [(o, .inr (11, [.int (0 : Int32), .ref o1, .null, .null, .null, .null, .int (0 : Int32)]))]) (fun _ => True) := by
  refine CVS.of (rt := .int) (own := RJ12) rfl (by decide) (Nat.le_of_ble_eq_true rfl) ?_
  intro p e s m args below meth c A Q ls S hin hK hP hD hZ hS hA hl hret0
  have hx := S.1
  have hb := S.2.1
  have hts := S.2.2.2.2
  have hl : lv_has ls 5 [(0, .ref o), (1, .null), (2, .ref o1), (3, .int (0 : Int32)), (4, .int (0 : Int32))] := hl
  refine lv_aload_n hx hb dJ12_init_0 rfl (lv_at hl 0 rfl) ?_
  refine lv_aload_nN hx hb dJ12_init_1 rfl (lv_at hl 1 rfl) ?_
  refine lv_aload_n hx hb dJ12_init_2 rfl (lv_at hl 2 rfl) ?_
  refine lv_iload_n hx hb dJ12_init_3 rfl (lv_at hl 3 rfl) ?_
  refine lv_iload hx hb dJ12_init_4 (lv_at hl 4 rfl) ?_
  refine run_vS0 (wr := []) (w' := fun u : UU => [(o, .inr (11, [.int (0 : Int32), .ref o1, .null, .null, .null, .null, .int (0 : Int32)]))]) (va_runI (As := [.null, .ref o1, .int (0 : Int32), .int (0 : Int32)]) (rest := []) S (tJ11_init_2_X12r l D d z o o1 _) (cwI 4 hts (lw_meth q731) rfl rfl rfl (hts _ q113) (hts _ q729) (hts _ q730) rfl (by decide +kernel) ⟨(Nat.le_of_ble_eq_true rfl), (Nat.le_of_ble_eq_true rfl)⟩) ⟨Pw.blind, fun U hU hW => Pw.cut (tl := []) hK (by rw [List.append_nil]; exact hP) (by rw [List.append_nil]; exact hD) hZ hS hA [0] rfl rfl hU hW⟩ rfl rfl hl.1 rfl (lv_room (Nat.le_of_ble_eq_true rfl)) dJ12_init_6 ⟨(Nat.le_of_ble_eq_true rfl), (Nat.le_of_ble_eq_true rfl)⟩) hP hD hS hA [0] [] [0] rfl rfl rfl rfl (by decide) rfl (fun _ => rfl) ?_
  clear hP hD hS
  intro u_1 _ H locs hP hD hS
  refine W.widen (k := 0) (n := 0) (Nat.le_of_ble_eq_true rfl) (Nat.le_of_ble_eq_true rfl) ?_
  exact hret0 (fun _ => 0) trivial _ _ _ _ dJ12_init_9 hP hD hS
set_option maxHeartbeats 4000000 in
set_option maxRecDepth 100000 in
theorem tX10_init_X12r (l : Launch) (D : va_G) (d : Nat → ClassId) (z : ZT) (o : Nat) (p0 : Int32) (o1 : Nat) : CVS l yX10_init (ws_ yX10_init cX10_init 3 (Option.none : Option Jvm.ClassFile.FieldType)) (rmc 3 0 0 60) D d z [.ref o, .int p0, .ref o1] ([(o, .inr (11, [.int (0 : Int32), .null, .null, .null, .null, .null, .int (0 : Int32)]))]) (fun u : UU => [(o, .inr (11, [.int p0, .ref o1, .null, .null, .null, .null, .int (0 : Int32)]))]) (fun _ => True) := by
  refine CVS.of (rt := .int) (own := RX10) rfl (by decide) (Nat.le_of_ble_eq_true rfl) ?_
  intro p e s m args below meth c A Q ls S hin hK hP hD hZ hS hA hl hret0
  have hx := S.1
  have hb := S.2.1
  have hts := S.2.2.2.2
  have hl : lv_has ls 3 [(0, .ref o), (1, .int p0), (2, .ref o1)] := hl
  refine lv_aload_n hx hb dX10_init_0 rfl (lv_at hl 0 rfl) ?_
  refine lv_null hx hb dX10_init_1 ?_
  refine lv_aload_n hx hb dX10_init_2 rfl (lv_at hl 2 rfl) ?_
  refine lv_iconst (v := 0) hx hb dX10_init_3 (by decide) ?_
  refine lv_iconst (v := 0) hx hb dX10_init_4 (by decide) ?_
  refine run_vS0 (wr := []) (w' := fun u : UU => [(o, .inr (11, [.int (0 : Int32), .ref o1, .null, .null, .null, .null, .int (0 : Int32)]))]) (va_runI (As := [.null, .ref o1, .int (0 : Int32), .int (0 : Int32)]) (rest := []) S (tJ12_init_X12r l D d z o o1 _) (cwI 4 hts (lw_meth q728) rfl rfl rfl (hts _ q114) (hts _ q1317) (hts _ q727) rfl (by decide +kernel) ⟨(Nat.le_of_ble_eq_true rfl), (Nat.le_of_ble_eq_true rfl)⟩) ⟨Pw.blind, fun U hU hW => Pw.cut (tl := []) hK (by rw [List.append_nil]; exact hP) (by rw [List.append_nil]; exact hD) hZ hS hA [0] rfl rfl hU hW⟩ rfl rfl hl.1 rfl (lv_room (Nat.le_of_ble_eq_true rfl)) dX10_init_5 ⟨(Nat.le_of_ble_eq_true rfl), (Nat.le_of_ble_eq_true rfl)⟩) hP hD hS hA [0] [] [0] rfl rfl rfl rfl (by decide) rfl (fun _ => rfl) ?_
  clear hP hD hS
  intro u_1 _ H locs hP hD hS
  refine lv_aload_n hx hb dX10_init_8 rfl (lv_at hl 0 rfl) ?_
  refine lv_iload_n hx hb dX10_init_9 rfl (lv_at hl 1 rfl) ?_
  refine g_putF hx hb hts S.2.2.2.1 hK hP hD hS in_X12 tyX12 tyX12_ok nmX12 0 rfl rfl 0 (by decide) q1318 (fun _ h9 => h9) rfl hin rfl (v := .int p0) rfl rfl rfl (Nat.le_of_ble_eq_true rfl) (w' := [(o, .inr (11, [.int p0, .ref o1, .null, .null, .null, .null, .int (0 : Int32)]))]) rfl dX10_init_10 ?_
  clear hP hD hS
  intro H locs hP hD hS
  refine W.widen (k := 0) (n := 0) (Nat.le_of_ble_eq_true rfl) (Nat.le_of_ble_eq_true rfl) ?_
  exact hret0 (fun _ => 0) trivial _ _ _ _ dX10_init_13 hP hD hS
set_option maxHeartbeats 4000000 in
set_option maxRecDepth 100000 in
theorem tX12_initr (l : Launch) (D : va_G) (d : Nat → ClassId) (z : ZT) (o : Nat) (p0 : Int32) (o1 : Nat) : CVS l yX12_init (ws_ yX12_init cX12_init 3 (Option.none : Option Jvm.ClassFile.FieldType)) (rmc 4 0 0 82) D d z [.ref o, .int p0, .ref o1] ([(o, .inr (11, [.int (0 : Int32), .null, .null, .null, .null, .null, .int (0 : Int32)]))]) (fun u : UU => [(o, .inr (11, [.int p0, .ref o1, .null, .null, .null, .null, .int (0 : Int32)]))]) (fun _ => True) := by
  refine CVS.of (rt := .int) (own := RX12) rfl (by decide) (Nat.le_of_ble_eq_true rfl) ?_
  intro p e s m args below meth c A Q ls S hin hK hP hD hZ hS hA hl hret0
  have hx := S.1
  have hb := S.2.1
  have hts := S.2.2.2.2
  have hl : lv_has ls 3 [(0, .ref o), (1, .int p0), (2, .ref o1)] := hl
  refine lv_aload_n hx hb dX12_init_0 rfl (lv_at hl 0 rfl) ?_
  refine lv_iload_n hx hb dX12_init_1 rfl (lv_at hl 1 rfl) ?_
  refine lv_aload_n hx hb dX12_init_2 rfl (lv_at hl 2 rfl) ?_
  refine run_vS0 (wr := []) (w' := fun u : UU => [(o, .inr (11, [.int p0, .ref o1, .null, .null, .null, .null, .int (0 : Int32)]))]) (va_runI (As := [.int p0, .ref o1]) (rest := []) S (tX10_init_X12r l D d z o p0 o1 _) (cwI 2 hts (lw_meth q1316) rfl rfl rfl (hts _ q122) (hts _ q1336) (hts _ q1315) rfl (by decide +kernel) ⟨(Nat.le_of_ble_eq_true rfl), (Nat.le_of_ble_eq_true rfl)⟩) ⟨Pw.blind, fun U hU hW => Pw.cut (tl := []) hK (by rw [List.append_nil]; exact hP) (by rw [List.append_nil]; exact hD) hZ hS hA [0] rfl rfl hU hW⟩ rfl rfl hl.1 rfl (lv_room (Nat.le_of_ble_eq_true rfl)) dX12_init_3 ⟨(Nat.le_of_ble_eq_true rfl), (Nat.le_of_ble_eq_true rfl)⟩) hP hD hS hA [0] [] [0] rfl rfl rfl rfl (by decide) rfl (fun _ => rfl) ?_
  clear hP hD hS
  intro u_1 _ H locs hP hD hS
  refine W.widen (k := 0) (n := 0) (Nat.le_of_ble_eq_true rfl) (Nat.le_of_ble_eq_true rfl) ?_
  exact hret0 (fun _ => 0) trivial _ _ _ _ dX12_init_6 hP hD hS
set_option maxHeartbeats 4000000 in
set_option maxRecDepth 100000 in
theorem tJ11_init_2_X13n (l : Launch) (D : va_G) (d : Nat → ClassId) (z : ZT) (o : Nat) : CVS l yJ11_init_2 (ws_ yJ11_init_2 cJ11_init_2 5 (Option.none : Option Jvm.ClassFile.FieldType)) (rmc 1 0 0 12) D d z [.ref o, .null, .null, .int (0 : Int32), .int (0 : Int32)] ([(o, .inr (12, [.int (0 : Int32), .null, .null, .null, .null, .null, .int (0 : Int32)]))]) (fun u : UU => [(o, .inr (12, [.int (0 : Int32), .null, .null, .null, .null, .null, .int (0 : Int32)]))]) (fun _ => True) := by
  refine CVS.of (rt := .int) (own := RJ11) rfl (by decide) (Nat.le_of_ble_eq_true rfl) ?_
  intro p e s m args below meth c A Q ls S hin hK hP hD hZ hS hA hl hret0
  have hx := S.1
  have hb := S.2.1
  have hts := S.2.2.2.2
  have hl : lv_has ls 5 [(0, .ref o), (1, .null), (2, .null), (3, .int (0 : Int32)), (4, .int (0 : Int32))] := hl
  refine lv_aload_n hx hb dJ11_init_2_0 rfl (lv_at hl 0 rfl) ?_
  refine W.objInit hx hb S.2.2.2.1 (hts _ q703) (hts _ q136) (hts _ q137) rfl (by rw [S.2.2.1]; exact hl.1) rfl dJ11_init_2_1 (Nat.le_of_ble_eq_true rfl) (Nat.le_of_ble_eq_true rfl) ?_
  refine W.eq (g2 := F0 m 4 ls []) rfl ?_
  refine lv_aload_n hx hb dJ11_init_2_4 rfl (lv_at hl 0 rfl) ?_
  refine lv_aload_n hx hb dJ11_init_2_5 rfl (lv_at hl 0 rfl) ?_
  refine g_put hx hb hts S.2.2.2.1 hK hP hD hS in_X13 tyX13 tyX13_ok nmX13 0 rfl rfl 1 (by decide) q738 (fun _ h9 => h9) rfl (v := .ref o) rfl rfl rfl (Nat.le_of_ble_eq_true rfl) (w' := [(o, .inr (12, [.int (0 : Int32), .ref o, .null, .null, .null, .null, .int (0 : Int32)]))]) rfl dJ11_init_2_6 ?_
  clear hP hD hS
  intro H locs hP hD hS
  refine lv_aload_n hx hb dJ11_init_2_9 rfl (lv_at hl 0 rfl) ?_
  rcases hZ.2.1 with hsi | ⟨ts_1, hsi⟩
  · refine va_gets hx hb hsi hS S.2.2.2.1 (hts _ q704) (fun _ h9 => h9) dJ11_init_2_10 ?_
    refine g_put hx hb hts S.2.2.2.1 hK hP hD hS in_X13 tyX13 tyX13_ok nmX13 0 rfl rfl 2 (by decide) q739 (fun _ h9 => h9) rfl (v := .null) rfl rfl rfl (Nat.le_of_ble_eq_true rfl) (w' := [(o, .inr (12, [.int (0 : Int32), .ref o, .null, .null, .null, .null, .int (0 : Int32)]))]) rfl dJ11_init_2_13 ?_
    clear hP hD hS
    intro H locs hP hD hS
    refine lv_aload_n hx hb dJ11_init_2_16 rfl (lv_at hl 0 rfl) ?_
    rcases hZ.2.2.1 with hsi | ⟨ts_2, hsi⟩
    · refine va_gets hx hb hsi hS S.2.2.2.1 (hts _ q706) (fun _ h9 => h9) dJ11_init_2_17 ?_
      refine g_put hx hb hts S.2.2.2.1 hK hP hD hS in_X13 tyX13 tyX13_ok nmX13 0 rfl rfl 3 (by decide) q740 (fun _ h9 => h9) rfl (v := .null) rfl rfl rfl (Nat.le_of_ble_eq_true rfl) (w' := [(o, .inr (12, [.int (0 : Int32), .ref o, .null, .null, .null, .null, .int (0 : Int32)]))]) rfl dJ11_init_2_20 ?_
      clear hP hD hS
      intro H locs hP hD hS
      refine lv_iload hx hb dJ11_init_2_23 (lv_at hl 4 rfl) ?_
      refine lv_if_eq (tgt := 36) hx hb dJ11_init_2_25 (by decide) (fun hc => ?_) (fun hc => absurd (by decide) hc)
      clear hc
      refine lv_aload_n hx hb dJ11_init_2_36 rfl (lv_at hl 0 rfl) ?_
      refine lv_null hx hb dJ11_init_2_37 ?_
      refine g_put hx hb hts S.2.2.2.1 hK hP hD hS in_X13 tyX13 tyX13_ok nmX13 0 rfl rfl 2 (by decide) q739 (fun _ h9 => h9) rfl (v := .null) rfl rfl rfl (Nat.le_of_ble_eq_true rfl) (w' := [(o, .inr (12, [.int (0 : Int32), .ref o, .null, .null, .null, .null, .int (0 : Int32)]))]) rfl dJ11_init_2_38 ?_
      clear hP hD hS
      intro H locs hP hD hS
      refine lv_aload_n hx hb dJ11_init_2_41 rfl (lv_at hl 0 rfl) ?_
      refine lv_aload_nN hx hb dJ11_init_2_42 rfl (lv_at hl 1 rfl) ?_
      refine g_put hx hb hts S.2.2.2.1 hK hP hD hS in_X13 tyX13 tyX13_ok nmX13 0 rfl rfl 4 (by decide) q737 (fun _ h9 => h9) rfl (v := .null) rfl rfl rfl (Nat.le_of_ble_eq_true rfl) (w' := [(o, .inr (12, [.int (0 : Int32), .ref o, .null, .null, .null, .null, .int (0 : Int32)]))]) rfl dJ11_init_2_43 ?_
      clear hP hD hS
      intro H locs hP hD hS
      refine lv_aload_n hx hb dJ11_init_2_46 rfl (lv_at hl 0 rfl) ?_
      refine lv_aload_nN hx hb dJ11_init_2_47 rfl (lv_at hl 2 rfl) ?_
      refine g_put hx hb hts S.2.2.2.1 hK hP hD hS in_X13 tyX13 tyX13_ok nmX13 0 rfl rfl 1 (by decide) q738 (fun _ h9 => h9) rfl (v := .null) rfl rfl rfl (Nat.le_of_ble_eq_true rfl) (w' := [(o, .inr (12, [.int (0 : Int32), .null, .null, .null, .null, .null, .int (0 : Int32)]))]) rfl dJ11_init_2_48 ?_
      clear hP hD hS
      intro H locs hP hD hS
      refine lv_iload_n hx hb dJ11_init_2_51 rfl (lv_at hl 3 rfl) ?_
      refine lv_if_ne (tgt := 60) hx hb dJ11_init_2_52 (by decide) (fun hc => absurd hc (by decide)) (fun hc => ?_)
      clear hc
      refine lv_aload_n hx hb dJ11_init_2_55 rfl (lv_at hl 0 rfl) ?_
      refine lv_null hx hb dJ11_init_2_56 ?_
      refine g_put hx hb hts S.2.2.2.1 hK hP hD hS in_X13 tyX13 tyX13_ok nmX13 0 rfl rfl 3 (by decide) q740 (fun _ h9 => h9) rfl (v := .null) rfl rfl rfl (Nat.le_of_ble_eq_true rfl) (w' := [(o, .inr (12, [.int (0 : Int32), .null, .null, .null, .null, .null, .int (0 : Int32)]))]) rfl dJ11_init_2_57 ?_
      clear hP hD hS
      intro H locs hP hD hS
      refine W.widen (k := 0) (n := 0) (Nat.le_of_ble_eq_true rfl) (Nat.le_of_ble_eq_true rfl) ?_
      exact hret0 (fun _ => 0) trivial _ _ _ _ dJ11_init_2_60 hP hD hS
    · refine va_gets hx hb hsi hS S.2.2.2.1 (hts _ q706) (fun _ h9 => h9) dJ11_init_2_17 ?_
      refine g_put hx hb hts S.2.2.2.1 hK hP hD hS in_X13 tyX13 tyX13_ok nmX13 0 rfl rfl 3 (by decide) q740 (fun _ h9 => h9) rfl (v := .ref ts_2) rfl rfl rfl (Nat.le_of_ble_eq_true rfl) (w' := [(o, .inr (12, [.int (0 : Int32), .ref o, .null, .ref ts_2, .null, .null, .int (0 : Int32)]))]) rfl dJ11_init_2_20 ?_
      clear hP hD hS
      intro H locs hP hD hS
      refine lv_iload hx hb dJ11_init_2_23 (lv_at hl 4 rfl) ?_
      refine lv_if_eq (tgt := 36) hx hb dJ11_init_2_25 (by decide) (fun hc => ?_) (fun hc => absurd (by decide) hc)
      clear hc
      refine lv_aload_n hx hb dJ11_init_2_36 rfl (lv_at hl 0 rfl) ?_
      refine lv_null hx hb dJ11_init_2_37 ?_
      refine g_put hx hb hts S.2.2.2.1 hK hP hD hS in_X13 tyX13 tyX13_ok nmX13 0 rfl rfl 2 (by decide) q739 (fun _ h9 => h9) rfl (v := .null) rfl rfl rfl (Nat.le_of_ble_eq_true rfl) (w' := [(o, .inr (12, [.int (0 : Int32), .ref o, .null, .ref ts_2, .null, .null, .int (0 : Int32)]))]) rfl dJ11_init_2_38 ?_
      clear hP hD hS
      intro H locs hP hD hS
      refine lv_aload_n hx hb dJ11_init_2_41 rfl (lv_at hl 0 rfl) ?_
      refine lv_aload_nN hx hb dJ11_init_2_42 rfl (lv_at hl 1 rfl) ?_
      refine g_put hx hb hts S.2.2.2.1 hK hP hD hS in_X13 tyX13 tyX13_ok nmX13 0 rfl rfl 4 (by decide) q737 (fun _ h9 => h9) rfl (v := .null) rfl rfl rfl (Nat.le_of_ble_eq_true rfl) (w' := [(o, .inr (12, [.int (0 : Int32), .ref o, .null, .ref ts_2, .null, .null, .int (0 : Int32)]))]) rfl dJ11_init_2_43 ?_
      clear hP hD hS
      intro H locs hP hD hS
      refine lv_aload_n hx hb dJ11_init_2_46 rfl (lv_at hl 0 rfl) ?_
      refine lv_aload_nN hx hb dJ11_init_2_47 rfl (lv_at hl 2 rfl) ?_
      refine g_put hx hb hts S.2.2.2.1 hK hP hD hS in_X13 tyX13 tyX13_ok nmX13 0 rfl rfl 1 (by decide) q738 (fun _ h9 => h9) rfl (v := .null) rfl rfl rfl (Nat.le_of_ble_eq_true rfl) (w' := [(o, .inr (12, [.int (0 : Int32), .null, .null, .ref ts_2, .null, .null, .int (0 : Int32)]))]) rfl dJ11_init_2_48 ?_
      clear hP hD hS
      intro H locs hP hD hS
      refine lv_iload_n hx hb dJ11_init_2_51 rfl (lv_at hl 3 rfl) ?_
      refine lv_if_ne (tgt := 60) hx hb dJ11_init_2_52 (by decide) (fun hc => absurd hc (by decide)) (fun hc => ?_)
      clear hc
      refine lv_aload_n hx hb dJ11_init_2_55 rfl (lv_at hl 0 rfl) ?_
      refine lv_null hx hb dJ11_init_2_56 ?_
      refine g_put hx hb hts S.2.2.2.1 hK hP hD hS in_X13 tyX13 tyX13_ok nmX13 0 rfl rfl 3 (by decide) q740 (fun _ h9 => h9) rfl (v := .null) rfl rfl rfl (Nat.le_of_ble_eq_true rfl) (w' := [(o, .inr (12, [.int (0 : Int32), .null, .null, .null, .null, .null, .int (0 : Int32)]))]) rfl dJ11_init_2_57 ?_
      clear hP hD hS
      intro H locs hP hD hS
      refine W.widen (k := 0) (n := 0) (Nat.le_of_ble_eq_true rfl) (Nat.le_of_ble_eq_true rfl) ?_
      exact hret0 (fun _ => 0) trivial _ _ _ _ dJ11_init_2_60 hP hD hS
  · refine va_gets hx hb hsi hS S.2.2.2.1 (hts _ q704) (fun _ h9 => h9) dJ11_init_2_10 ?_
    refine g_put hx hb hts S.2.2.2.1 hK hP hD hS in_X13 tyX13 tyX13_ok nmX13 0 rfl rfl 2 (by decide) q739 (fun _ h9 => h9) rfl (v := .ref ts_1) rfl rfl rfl (Nat.le_of_ble_eq_true rfl) (w' := [(o, .inr (12, [.int (0 : Int32), .ref o, .ref ts_1, .null, .null, .null, .int (0 : Int32)]))]) rfl dJ11_init_2_13 ?_
    clear hP hD hS
    intro H locs hP hD hS
    refine lv_aload_n hx hb dJ11_init_2_16 rfl (lv_at hl 0 rfl) ?_
    rcases hZ.2.2.1 with hsi | ⟨ts_2, hsi⟩
    · refine va_gets hx hb hsi hS S.2.2.2.1 (hts _ q706) (fun _ h9 => h9) dJ11_init_2_17 ?_
      refine g_put hx hb hts S.2.2.2.1 hK hP hD hS in_X13 tyX13 tyX13_ok nmX13 0 rfl rfl 3 (by decide) q740 (fun _ h9 => h9) rfl (v := .null) rfl rfl rfl (Nat.le_of_ble_eq_true rfl) (w' := [(o, .inr (12, [.int (0 : Int32), .ref o, .ref ts_1, .null, .null, .null, .int (0 : Int32)]))]) rfl dJ11_init_2_20 ?_
      clear hP hD hS
      intro H locs hP hD hS
      refine lv_iload hx hb dJ11_init_2_23 (lv_at hl 4 rfl) ?_
      refine lv_if_eq (tgt := 36) hx hb dJ11_init_2_25 (by decide) (fun hc => ?_) (fun hc => absurd (by decide) hc)
      clear hc
      refine lv_aload_n hx hb dJ11_init_2_36 rfl (lv_at hl 0 rfl) ?_
      refine lv_null hx hb dJ11_init_2_37 ?_
      refine g_put hx hb hts S.2.2.2.1 hK hP hD hS in_X13 tyX13 tyX13_ok nmX13 0 rfl rfl 2 (by decide) q739 (fun _ h9 => h9) rfl (v := .null) rfl rfl rfl (Nat.le_of_ble_eq_true rfl) (w' := [(o, .inr (12, [.int (0 : Int32), .ref o, .null, .null, .null, .null, .int (0 : Int32)]))]) rfl dJ11_init_2_38 ?_
      clear hP hD hS
      intro H locs hP hD hS
      refine lv_aload_n hx hb dJ11_init_2_41 rfl (lv_at hl 0 rfl) ?_
      refine lv_aload_nN hx hb dJ11_init_2_42 rfl (lv_at hl 1 rfl) ?_
      refine g_put hx hb hts S.2.2.2.1 hK hP hD hS in_X13 tyX13 tyX13_ok nmX13 0 rfl rfl 4 (by decide) q737 (fun _ h9 => h9) rfl (v := .null) rfl rfl rfl (Nat.le_of_ble_eq_true rfl) (w' := [(o, .inr (12, [.int (0 : Int32), .ref o, .null, .null, .null, .null, .int (0 : Int32)]))]) rfl dJ11_init_2_43 ?_
      clear hP hD hS
      intro H locs hP hD hS
      refine lv_aload_n hx hb dJ11_init_2_46 rfl (lv_at hl 0 rfl) ?_
      refine lv_aload_nN hx hb dJ11_init_2_47 rfl (lv_at hl 2 rfl) ?_
      refine g_put hx hb hts S.2.2.2.1 hK hP hD hS in_X13 tyX13 tyX13_ok nmX13 0 rfl rfl 1 (by decide) q738 (fun _ h9 => h9) rfl (v := .null) rfl rfl rfl (Nat.le_of_ble_eq_true rfl) (w' := [(o, .inr (12, [.int (0 : Int32), .null, .null, .null, .null, .null, .int (0 : Int32)]))]) rfl dJ11_init_2_48 ?_
      clear hP hD hS
      intro H locs hP hD hS
      refine lv_iload_n hx hb dJ11_init_2_51 rfl (lv_at hl 3 rfl) ?_
      refine lv_if_ne (tgt := 60) hx hb dJ11_init_2_52 (by decide) (fun hc => absurd hc (by decide)) (fun hc => ?_)
      clear hc
      refine lv_aload_n hx hb dJ11_init_2_55 rfl (lv_at hl 0 rfl) ?_
      refine lv_null hx hb dJ11_init_2_56 ?_
      refine g_put hx hb hts S.2.2.2.1 hK hP hD hS in_X13 tyX13 tyX13_ok nmX13 0 rfl rfl 3 (by decide) q740 (fun _ h9 => h9) rfl (v := .null) rfl rfl rfl (Nat.le_of_ble_eq_true rfl) (w' := [(o, .inr (12, [.int (0 : Int32), .null, .null, .null, .null, .null, .int (0 : Int32)]))]) rfl dJ11_init_2_57 ?_
      clear hP hD hS
      intro H locs hP hD hS
      refine W.widen (k := 0) (n := 0) (Nat.le_of_ble_eq_true rfl) (Nat.le_of_ble_eq_true rfl) ?_
      exact hret0 (fun _ => 0) trivial _ _ _ _ dJ11_init_2_60 hP hD hS
    · refine va_gets hx hb hsi hS S.2.2.2.1 (hts _ q706) (fun _ h9 => h9) dJ11_init_2_17 ?_
      refine g_put hx hb hts S.2.2.2.1 hK hP hD hS in_X13 tyX13 tyX13_ok nmX13 0 rfl rfl 3 (by decide) q740 (fun _ h9 => h9) rfl (v := .ref ts_2) rfl rfl rfl (Nat.le_of_ble_eq_true rfl) (w' := [(o, .inr (12, [.int (0 : Int32), .ref o, .ref ts_1, .ref ts_2, .null, .null, .int (0 : Int32)]))]) rfl dJ11_init_2_20 ?_
      clear hP hD hS
      intro H locs hP hD hS
      refine lv_iload hx hb dJ11_init_2_23 (lv_at hl 4 rfl) ?_
      refine lv_if_eq (tgt := 36) hx hb dJ11_init_2_25 (by decide) (fun hc => ?_) (fun hc => absurd (by decide) hc)
      clear hc
      refine lv_aload_n hx hb dJ11_init_2_36 rfl (lv_at hl 0 rfl) ?_
      refine lv_null hx hb dJ11_init_2_37 ?_
      refine g_put hx hb hts S.2.2.2.1 hK hP hD hS in_X13 tyX13 tyX13_ok nmX13 0 rfl rfl 2 (by decide) q739 (fun _ h9 => h9) rfl (v := .null) rfl rfl rfl (Nat.le_of_ble_eq_true rfl) (w' := [(o, .inr (12, [.int (0 : Int32), .ref o, .null, .ref ts_2, .null, .null, .int (0 : Int32)]))]) rfl dJ11_init_2_38 ?_
      clear hP hD hS
      intro H locs hP hD hS
      refine lv_aload_n hx hb dJ11_init_2_41 rfl (lv_at hl 0 rfl) ?_
      refine lv_aload_nN hx hb dJ11_init_2_42 rfl (lv_at hl 1 rfl) ?_
      refine g_put hx hb hts S.2.2.2.1 hK hP hD hS in_X13 tyX13 tyX13_ok nmX13 0 rfl rfl 4 (by decide) q737 (fun _ h9 => h9) rfl (v := .null) rfl rfl rfl (Nat.le_of_ble_eq_true rfl) (w' := [(o, .inr (12, [.int (0 : Int32), .ref o, .null, .ref ts_2, .null, .null, .int (0 : Int32)]))]) rfl dJ11_init_2_43 ?_
      clear hP hD hS
      intro H locs hP hD hS
      refine lv_aload_n hx hb dJ11_init_2_46 rfl (lv_at hl 0 rfl) ?_
      refine lv_aload_nN hx hb dJ11_init_2_47 rfl (lv_at hl 2 rfl) ?_
      refine g_put hx hb hts S.2.2.2.1 hK hP hD hS in_X13 tyX13 tyX13_ok nmX13 0 rfl rfl 1 (by decide) q738 (fun _ h9 => h9) rfl (v := .null) rfl rfl rfl (Nat.le_of_ble_eq_true rfl) (w' := [(o, .inr (12, [.int (0 : Int32), .null, .null, .ref ts_2, .null, .null, .int (0 : Int32)]))]) rfl dJ11_init_2_48 ?_
      clear hP hD hS
      intro H locs hP hD hS
      refine lv_iload_n hx hb dJ11_init_2_51 rfl (lv_at hl 3 rfl) ?_
      refine lv_if_ne (tgt := 60) hx hb dJ11_init_2_52 (by decide) (fun hc => absurd hc (by decide)) (fun hc => ?_)
      clear hc
      refine lv_aload_n hx hb dJ11_init_2_55 rfl (lv_at hl 0 rfl) ?_
      refine lv_null hx hb dJ11_init_2_56 ?_
      refine g_put hx hb hts S.2.2.2.1 hK hP hD hS in_X13 tyX13 tyX13_ok nmX13 0 rfl rfl 3 (by decide) q740 (fun _ h9 => h9) rfl (v := .null) rfl rfl rfl (Nat.le_of_ble_eq_true rfl) (w' := [(o, .inr (12, [.int (0 : Int32), .null, .null, .null, .null, .null, .int (0 : Int32)]))]) rfl dJ11_init_2_57 ?_
      clear hP hD hS
      intro H locs hP hD hS
      refine W.widen (k := 0) (n := 0) (Nat.le_of_ble_eq_true rfl) (Nat.le_of_ble_eq_true rfl) ?_
      exact hret0 (fun _ => 0) trivial _ _ _ _ dJ11_init_2_60 hP hD hS
set_option maxHeartbeats 4000000 in
set_option maxRecDepth 100000 in
theorem tJ12_init_X13n (l : Launch) (D : va_G) (d : Nat → ClassId) (z : ZT) (o : Nat) : CVS l yJ12_init (ws_ yJ12_init cJ12_init 5 (Option.none : Option Jvm.ClassFile.FieldType)) (rmc 2 0 0 36) D d z [.ref o, .null, .null, .int (0 : Int32), .int (0 : Int32)] ([(o, .inr (12, [.int (0 : Int32), .null, .null, .null, .null, .null, .int (0 : Int32)]))]) (fun u : UU => [(o, .inr (12, [.int (0 : Int32), .null, .null, .null, .null, .null, .int (0 : Int32)]))]) (fun _ => True) := by
  refine CVS.of (rt := .int) (own := RJ12) rfl (by decide) (Nat.le_of_ble_eq_true rfl) ?_
  intro p e s m args below meth c A Q ls S hin hK hP hD hZ hS hA hl hret0
  have hx := S.1
  have hb := S.2.1
  have hts := S.2.2.2.2
  have hl : lv_has ls 5 [(0, .ref o), (1, .null), (2, .null), (3, .int (0 : Int32)), (4, .int (0 : Int32))] := hl
  refine lv_aload_n hx hb dJ12_init_0 rfl (lv_at hl 0 rfl) ?_
  refine lv_aload_nN hx hb dJ12_init_1 rfl (lv_at hl 1 rfl) ?_
  refine lv_aload_nN hx hb dJ12_init_2 rfl (lv_at hl 2 rfl) ?_
  refine lv_iload_n hx hb dJ12_init_3 rfl (lv_at hl 3 rfl) ?_
  refine lv_iload hx hb dJ12_init_4 (lv_at hl 4 rfl) ?_
  refine run_vS0 (wr := []) (w' := fun u : UU => [(o, .inr (12, [.int (0 : Int32), .null, .null, .null, .null, .null, .int (0 : Int32)]))]) (va_runI (As := [.null, .null, .int (0 : Int32), .int (0 : Int32)]) (rest := []) S (tJ11_init_2_X13n l D d z o _) (cwI 4 hts (lw_meth q731) rfl rfl rfl (hts _ q113) (hts _ q729) (hts _ q730) rfl (by decide +kernel) ⟨(Nat.le_of_ble_eq_true rfl), (Nat.le_of_ble_eq_true rfl)⟩) ⟨Pw.blind, fun U hU hW => Pw.cut (tl := []) hK (by rw [List.append_nil]; exact hP) (by rw [List.append_nil]; exact hD) hZ hS hA [0] rfl rfl hU hW⟩ rfl rfl hl.1 rfl (lv_room (Nat.le_of_ble_eq_true rfl)) dJ12_init_6 ⟨(Nat.le_of_ble_eq_true rfl), (Nat.le_of_ble_eq_true rfl)⟩) hP hD hS hA [0] [] [0] rfl rfl rfl rfl (by decide) rfl (fun _ => rfl) ?_
  clear hP hD hS
  intro u_1 _ H locs hP hD hS
  refine W.widen (k := 0) (n := 0) (Nat.le_of_ble_eq_true rfl) (Nat.le_of_ble_eq_true rfl) ?_
  exact hret0 (fun _ => 0) trivial _ _ _ _ dJ12_init_9 hP hD hS
set_option maxHeartbeats 4000000 in
set_option maxRecDepth 100000 in
theorem tX10_init_X13n (l : Launch) (D : va_G) (d : Nat → ClassId) (z : ZT) (o : Nat) (p0 : Int32) : CVS l yX10_init (ws_ yX10_init cX10_init 3 (Option.none : Option Jvm.ClassFile.FieldType)) (rmc 3 0 0 60) D d z [.ref o, .int p0, .null] ([(o, .inr (12, [.int (0 : Int32), .null, .null, .null, .null, .null, .int (0 : Int32)]))]) (fun u : UU => [(o, .inr (12, [.int p0, .null, .null, .null, .null, .null, .int (0 : Int32)]))]) (fun _ => True) := by
  refine CVS.of (rt := .int) (own := RX10) rfl (by decide) (Nat.le_of_ble_eq_true rfl) ?_
  intro p e s m args below meth c A Q ls S hin hK hP hD hZ hS hA hl hret0
  have hx := S.1
  have hb := S.2.1
  have hts := S.2.2.2.2
  have hl : lv_has ls 3 [(0, .ref o), (1, .int p0), (2, .null)] := hl
  refine lv_aload_n hx hb dX10_init_0 rfl (lv_at hl 0 rfl) ?_
  refine lv_null hx hb dX10_init_1 ?_
  refine lv_aload_nN hx hb dX10_init_2 rfl (lv_at hl 2 rfl) ?_
  refine lv_iconst (v := 0) hx hb dX10_init_3 (by decide) ?_
  refine lv_iconst (v := 0) hx hb dX10_init_4 (by decide) ?_
  refine run_vS0 (wr := []) (w' := fun u : UU => [(o, .inr (12, [.int (0 : Int32), .null, .null, .null, .null, .null, .int (0 : Int32)]))]) (va_runI (As := [.null, .null, .int (0 : Int32), .int (0 : Int32)]) (rest := []) S (tJ12_init_X13n l D d z o _) (cwI 4 hts (lw_meth q728) rfl rfl rfl (hts _ q114) (hts _ q1317) (hts _ q727) rfl (by decide +kernel) ⟨(Nat.le_of_ble_eq_true rfl), (Nat.le_of_ble_eq_true rfl)⟩) ⟨Pw.blind, fun U hU hW => Pw.cut (tl := []) hK (by rw [List.append_nil]; exact hP) (by rw [List.append_nil]; exact hD) hZ hS hA [0] rfl rfl hU hW⟩ rfl rfl hl.1 rfl (lv_room (Nat.le_of_ble_eq_true rfl)) dX10_init_5 ⟨(Nat.le_of_ble_eq_true rfl), (Nat.le_of_ble_eq_true rfl)⟩) hP hD hS hA [0] [] [0] rfl rfl rfl rfl (by decide) rfl (fun _ => rfl) ?_
  clear hP hD hS
  intro u_1 _ H locs hP hD hS
  refine lv_aload_n hx hb dX10_init_8 rfl (lv_at hl 0 rfl) ?_
  refine lv_iload_n hx hb dX10_init_9 rfl (lv_at hl 1 rfl) ?_
  refine g_putF hx hb hts S.2.2.2.1 hK hP hD hS in_X13 tyX13 tyX13_ok nmX13 0 rfl rfl 0 (by decide) q1318 (fun _ h9 => h9) rfl hin rfl (v := .int p0) rfl rfl rfl (Nat.le_of_ble_eq_true rfl) (w' := [(o, .inr (12, [.int p0, .null, .null, .null, .null, .null, .int (0 : Int32)]))]) rfl dX10_init_10 ?_
  clear hP hD hS
  intro H locs hP hD hS
  refine W.widen (k := 0) (n := 0) (Nat.le_of_ble_eq_true rfl) (Nat.le_of_ble_eq_true rfl) ?_
  exact hret0 (fun _ => 0) trivial _ _ _ _ dX10_init_13 hP hD hS
set_option maxHeartbeats 4000000 in
set_option maxRecDepth 100000 in
theorem tX13_initn (l : Launch) (D : va_G) (d : Nat → ClassId) (z : ZT) (o : Nat) (p0 : Int32) : CVS l yX13_init (ws_ yX13_init cX13_init 3 (Option.none : Option Jvm.ClassFile.FieldType)) (rmc 4 0 0 82) D d z [.ref o, .int p0, .null] ([(o, .inr (12, [.int (0 : Int32), .null, .null, .null, .null, .null, .int (0 : Int32)]))]) (fun u : UU => [(o, .inr (12, [.int p0, .null, .null, .null, .null, .null, .int (0 : Int32)]))]) (fun _ => True) := by
  refine CVS.of (rt := .int) (own := RX13) rfl (by decide) (Nat.le_of_ble_eq_true rfl) ?_
  intro p e s m args below meth c A Q ls S hin hK hP hD hZ hS hA hl hret0
  have hx := S.1
  have hb := S.2.1
  have hts := S.2.2.2.2
  have hl : lv_has ls 3 [(0, .ref o), (1, .int p0), (2, .null)] := hl
  refine lv_aload_n hx hb dX13_init_0 rfl (lv_at hl 0 rfl) ?_
  refine lv_iload_n hx hb dX13_init_1 rfl (lv_at hl 1 rfl) ?_
  refine lv_aload_nN hx hb dX13_init_2 rfl (lv_at hl 2 rfl) ?_
  refine run_vS0 (wr := []) (w' := fun u : UU => [(o, .inr (12, [.int p0, .null, .null, .null, .null, .null, .int (0 : Int32)]))]) (va_runI (As := [.int p0, .null]) (rest := []) S (tX10_init_X13n l D d z o p0 _) (cwI 2 hts (lw_meth q1316) rfl rfl rfl (hts _ q122) (hts _ q1375) (hts _ q1315) rfl (by decide +kernel) ⟨(Nat.le_of_ble_eq_true rfl), (Nat.le_of_ble_eq_true rfl)⟩) ⟨Pw.blind, fun U hU hW => Pw.cut (tl := []) hK (by rw [List.append_nil]; exact hP) (by rw [List.append_nil]; exact hD) hZ hS hA [0] rfl rfl hU hW⟩ rfl rfl hl.1 rfl (lv_room (Nat.le_of_ble_eq_true rfl)) dX13_init_3 ⟨(Nat.le_of_ble_eq_true rfl), (Nat.le_of_ble_eq_true rfl)⟩) hP hD hS hA [0] [] [0] rfl rfl rfl rfl (by decide) rfl (fun _ => rfl) ?_
  clear hP hD hS
  intro u_1 _ H locs hP hD hS
  refine W.widen (k := 0) (n := 0) (Nat.le_of_ble_eq_true rfl) (Nat.le_of_ble_eq_true rfl) ?_
  exact hret0 (fun _ => 0) trivial _ _ _ _ dX13_init_6 hP hD hS
set_option maxHeartbeats 4000000 in
set_option maxRecDepth 100000 in
theorem tJ11_init_2_X13r (l : Launch) (D : va_G) (d : Nat → ClassId) (z : ZT) (o : Nat) (o1 : Nat) : CVS l yJ11_init_2 (ws_ yJ11_init_2 cJ11_init_2 5 (Option.none : Option Jvm.ClassFile.FieldType)) (rmc 1 0 0 12) D d z [.ref o, .null, .ref o1, .int (0 : Int32), .int (0 : Int32)] ([(o, .inr (12, [.int (0 : Int32), .null, .null, .null, .null, .null, .int (0 : Int32)]))]) (fun u : UU => [(o, .inr (12, [.int (0 : Int32), .ref o1, .null, .null, .null, .null, .int (0 : Int32)]))]) (fun _ => True) := by
  refine CVS.of (rt := .int) (own := RJ11) rfl (by decide) (Nat.le_of_ble_eq_true rfl) ?_
  intro p e s m args below meth c A Q ls S hin hK hP hD hZ hS hA hl hret0
  have hx := S.1
  have hb := S.2.1
  have hts := S.2.2.2.2
  have hl : lv_has ls 5 [(0, .ref o), (1, .null), (2, .ref o1), (3, .int (0 : Int32)), (4, .int (0 : Int32))] := hl
  refine lv_aload_n hx hb dJ11_init_2_0 rfl (lv_at hl 0 rfl) ?_
  refine W.objInit hx hb S.2.2.2.1 (hts _ q703) (hts _ q136) (hts _ q137) rfl (by rw [S.2.2.1]; exact hl.1) rfl dJ11_init_2_1 (Nat.le_of_ble_eq_true rfl) (Nat.le_of_ble_eq_true rfl) ?_
  refine W.eq (g2 := F0 m 4 ls []) rfl ?_
  refine lv_aload_n hx hb dJ11_init_2_4 rfl (lv_at hl 0 rfl) ?_
  refine lv_aload_n hx hb dJ11_init_2_5 rfl (lv_at hl 0 rfl) ?_
  refine g_put hx hb hts S.2.2.2.1 hK hP hD hS in_X13 tyX13 tyX13_ok nmX13 0 rfl rfl 1 (by decide) q738 (fun _ h9 => h9) rfl (v := .ref o) rfl rfl rfl (Nat.le_of_ble_eq_true rfl) (w' := [(o, .inr (12, [.int (0 : Int32), .ref o, .null, .null, .null, .null, .int (0 : Int32)]))]) rfl dJ11_init_2_6 ?_
  clear hP hD hS
  intro H locs hP hD hS
  refine lv_aload_n hx hb dJ11_init_2_9 rfl (lv_at hl 0 rfl) ?_
  rcases hZ.2.1 with hsi | ⟨ts_1, hsi⟩
  · refine va_gets hx hb hsi hS S.2.2.2.1 (hts _ q704) (fun _ h9 => h9) dJ11_init_2_10 ?_
    refine g_put hx hb hts S.2.2.2.1 hK hP hD hS in_X13 tyX13 tyX13_ok nmX13 0 rfl rfl 2 (by decide) q739 (fun _ h9 => h9) rfl (v := .null) rfl rfl rfl (Nat.le_of_ble_eq_true rfl) (w' := [(o, .inr (12, [.int (0 : Int32), .ref o, .null, .null, .null, .null, .int (0 : Int32)]))]) rfl dJ11_init_2_13 ?_
    clear hP hD hS
    intro H locs hP hD hS
    refine lv_aload_n hx hb dJ11_init_2_16 rfl (lv_at hl 0 rfl) ?_
    rcases hZ.2.2.1 with hsi | ⟨ts_2, hsi⟩
    · refine va_gets hx hb hsi hS S.2.2.2.1 (hts _ q706) (fun _ h9 => h9) dJ11_init_2_17 ?_
      refine g_put hx hb hts S.2.2.2.1 hK hP hD hS in_X13 tyX13 tyX13_ok nmX13 0 rfl rfl 3 (by decide) q740 (fun _ h9 => h9) rfl (v := .null) rfl rfl rfl (Nat.le_of_ble_eq_true rfl) (w' := [(o, .inr (12, [.int (0 : Int32), .ref o, .null, .null, .null, .null, .int (0 : Int32)]))]) rfl dJ11_init_2_20 ?_
      clear hP hD hS
      intro H locs hP hD hS
      refine lv_iload hx hb dJ11_init_2_23 (lv_at hl 4 rfl) ?_
      refine lv_if_eq (tgt := 36) hx hb dJ11_init_2_25 (by decide) (fun hc => ?_) (fun hc => absurd (by decide) hc)
      clear hc
      refine lv_aload_n hx hb dJ11_init_2_36 rfl (lv_at hl 0 rfl) ?_
      refine lv_null hx hb dJ11_init_2_37 ?_
      refine g_put hx hb hts S.2.2.2.1 hK hP hD hS in_X13 tyX13 tyX13_ok nmX13 0 rfl rfl 2 (by decide) q739 (fun _ h9 => h9) rfl (v := .null) rfl rfl rfl (Nat.le_of_ble_eq_true rfl) (w' := [(o, .inr (12, [.int (0 : Int32), .ref o, .null, .null, .null, .null, .int (0 : Int32)]))]) rfl dJ11_init_2_38 ?_
      clear hP hD hS
      intro H locs hP hD hS
      refine lv_aload_n hx hb dJ11_init_2_41 rfl (lv_at hl 0 rfl) ?_
      refine lv_aload_nN hx hb dJ11_init_2_42 rfl (lv_at hl 1 rfl) ?_
      refine g_put hx hb hts S.2.2.2.1 hK hP hD hS in_X13 tyX13 tyX13_ok nmX13 0 rfl rfl 4 (by decide) q737 (fun _ h9 => h9) rfl (v := .null) rfl rfl rfl (Nat.le_of_ble_eq_true rfl) (w' := [(o, .inr (12, [.int (0 : Int32), .ref o, .null, .null, .null, .null, .int (0 : Int32)]))]) rfl dJ11_init_2_43 ?_
      clear hP hD hS
      intro H locs hP hD hS
      refine lv_aload_n hx hb dJ11_init_2_46 rfl (lv_at hl 0 rfl) ?_
      refine lv_aload_n hx hb dJ11_init_2_47 rfl (lv_at hl 2 rfl) ?_
      refine g_put hx hb hts S.2.2.2.1 hK hP hD hS in_X13 tyX13 tyX13_ok nmX13 0 rfl rfl 1 (by decide) q738 (fun _ h9 => h9) rfl (v := .ref o1) rfl rfl rfl (Nat.le_of_ble_eq_true rfl) (w' := [(o, .inr (12, [.int (0 : Int32), .ref o1, .null, .null, .null, .null, .int (0 : Int32)]))]) rfl dJ11_init_2_48 ?_
      clear hP hD hS
      intro H locs hP hD hS
      refine lv_iload_n hx hb dJ11_init_2_51 rfl (lv_at hl 3 rfl) ?_
      refine lv_if_ne (tgt := 60) hx hb dJ11_init_2_52 (by decide) (fun hc => absurd hc (by decide)) (fun hc => ?_)
      clear hc
      refine lv_aload_n hx hb dJ11_init_2_55 rfl (lv_at hl 0 rfl) ?_
      refine lv_null hx hb dJ11_init_2_56 ?_
      refine g_put hx hb hts S.2.2.2.1 hK hP hD hS in_X13 tyX13 tyX13_ok nmX13 0 rfl rfl 3 (by decide) q740 (fun _ h9 => h9) rfl (v := .null) rfl rfl rfl (Nat.le_of_ble_eq_true rfl) (w' := [(o, .inr (12, [.int (0 : Int32), .ref o1, .null, .null, .null, .null, .int (0 : Int32)]))]) rfl dJ11_init_2_57 ?_
      clear hP hD hS
      intro H locs hP hD hS
      refine W.widen (k := 0) (n := 0) (Nat.le_of_ble_eq_true rfl) (Nat.le_of_ble_eq_true rfl) ?_
      exact hret0 (fun _ => 0) trivial _ _ _ _ dJ11_init_2_60 hP hD hS
    · refine va_gets hx hb hsi hS S.2.2.2.1 (hts _ q706) (fun _ h9 => h9) dJ11_init_2_17 ?_
      refine g_put hx hb hts S.2.2.2.1 hK hP hD hS in_X13 tyX13 tyX13_ok nmX13 0 rfl rfl 3 (by decide) q740 (fun _ h9 => h9) rfl (v := .ref ts_2) rfl rfl rfl (Nat.le_of_ble_eq_true rfl) (w' := [(o, .inr (12, [.int (0 : Int32), .ref o, .null, .ref ts_2, .null, .null, .int (0 : Int32)]))]) rfl dJ11_init_2_20 ?_
      clear hP hD hS
      intro H locs hP hD hS
      refine lv_iload hx hb dJ11_init_2_23 (lv_at hl 4 rfl) ?_
      refine lv_if_eq (tgt := 36) hx hb dJ11_init_2_25 (by decide) (fun hc => ?_) (fun hc => absurd (by decide) hc)
      clear hc
      refine lv_aload_n hx hb dJ11_init_2_36 rfl (lv_at hl 0 rfl) ?_
      refine lv_null hx hb dJ11_init_2_37 ?_
      refine g_put hx hb hts S.2.2.2.1 hK hP hD hS in_X13 tyX13 tyX13_ok nmX13 0 rfl rfl 2 (by decide) q739 (fun _ h9 => h9) rfl (v := .null) rfl rfl rfl (Nat.le_of_ble_eq_true rfl) (w' := [(o, .inr (12, [.int (0 : Int32), .ref o, .null, .ref ts_2, .null, .null, .int (0 : Int32)]))]) rfl dJ11_init_2_38 ?_
      clear hP hD hS
      intro H locs hP hD hS
      refine lv_aload_n hx hb dJ11_init_2_41 rfl (lv_at hl 0 rfl) ?_
      refine lv_aload_nN hx hb dJ11_init_2_42 rfl (lv_at hl 1 rfl) ?_
      refine g_put hx hb hts S.2.2.2.1 hK hP hD hS in_X13 tyX13 tyX13_ok nmX13 0 rfl rfl 4 (by decide) q737 (fun _ h9 => h9) rfl (v := .null) rfl rfl rfl (Nat.le_of_ble_eq_true rfl) (w' := [(o, .inr (12, [.int (0 : Int32), .ref o, .null, .ref ts_2, .null, .null, .int (0 : Int32)]))]) rfl dJ11_init_2_43 ?_
      clear hP hD hS
      intro H locs hP hD hS
      refine lv_aload_n hx hb dJ11_init_2_46 rfl (lv_at hl 0 rfl) ?_
      refine lv_aload_n hx hb dJ11_init_2_47 rfl (lv_at hl 2 rfl) ?_
      refine g_put hx hb hts S.2.2.2.1 hK hP hD hS in_X13 tyX13 tyX13_ok nmX13 0 rfl rfl 1 (by decide) q738 (fun _ h9 => h9) rfl (v := .ref o1) rfl rfl rfl (Nat.le_of_ble_eq_true rfl) (w' := [(o, .inr (12, [.int (0 : Int32), .ref o1, .null, .ref ts_2, .null, .null, .int (0 : Int32)]))]) rfl dJ11_init_2_48 ?_
      clear hP hD hS
      intro H locs hP hD hS
      refine lv_iload_n hx hb dJ11_init_2_51 rfl (lv_at hl 3 rfl) ?_
      refine lv_if_ne (tgt := 60) hx hb dJ11_init_2_52 (by decide) (fun hc => absurd hc (by decide)) (fun hc => ?_)
      clear hc
      refine lv_aload_n hx hb dJ11_init_2_55 rfl (lv_at hl 0 rfl) ?_
      refine lv_null hx hb dJ11_init_2_56 ?_
      refine g_put hx hb hts S.2.2.2.1 hK hP hD hS in_X13 tyX13 tyX13_ok nmX13 0 rfl rfl 3 (by decide) q740 (fun _ h9 => h9) rfl (v := .null) rfl rfl rfl (Nat.le_of_ble_eq_true rfl) (w' := [(o, .inr (12, [.int (0 : Int32), .ref o1, .null, .null, .null, .null, .int (0 : Int32)]))]) rfl dJ11_init_2_57 ?_
      clear hP hD hS
      intro H locs hP hD hS
      refine W.widen (k := 0) (n := 0) (Nat.le_of_ble_eq_true rfl) (Nat.le_of_ble_eq_true rfl) ?_
      exact hret0 (fun _ => 0) trivial _ _ _ _ dJ11_init_2_60 hP hD hS
  · refine va_gets hx hb hsi hS S.2.2.2.1 (hts _ q704) (fun _ h9 => h9) dJ11_init_2_10 ?_
    refine g_put hx hb hts S.2.2.2.1 hK hP hD hS in_X13 tyX13 tyX13_ok nmX13 0 rfl rfl 2 (by decide) q739 (fun _ h9 => h9) rfl (v := .ref ts_1) rfl rfl rfl (Nat.le_of_ble_eq_true rfl) (w' := [(o, .inr (12, [.int (0 : Int32), .ref o, .ref ts_1, .null, .null, .null, .int (0 : Int32)]))]) rfl dJ11_init_2_13 ?_
    clear hP hD hS
    intro H locs hP hD hS
    refine lv_aload_n hx hb dJ11_init_2_16 rfl (lv_at hl 0 rfl) ?_
    rcases hZ.2.2.1 with hsi | ⟨ts_2, hsi⟩
    · refine va_gets hx hb hsi hS S.2.2.2.1 (hts _ q706) (fun _ h9 => h9) dJ11_init_2_17 ?_
      refine g_put hx hb hts S.2.2.2.1 hK hP hD hS in_X13 tyX13 tyX13_ok nmX13 0 rfl rfl 3 (by decide) q740 (fun _ h9 => h9) rfl (v := .null) rfl rfl rfl (Nat.le_of_ble_eq_true rfl) (w' := [(o, .inr (12, [.int (0 : Int32), .ref o, .ref ts_1, .null, .null, .null, .int (0 : Int32)]))]) rfl dJ11_init_2_20 ?_
      clear hP hD hS
      intro H locs hP hD hS
      refine lv_iload hx hb dJ11_init_2_23 (lv_at hl 4 rfl) ?_
      refine lv_if_eq (tgt := 36) hx hb dJ11_init_2_25 (by decide) (fun hc => ?_) (fun hc => absurd (by decide) hc)
      clear hc
      refine lv_aload_n hx hb dJ11_init_2_36 rfl (lv_at hl 0 rfl) ?_
      refine lv_null hx hb dJ11_init_2_37 ?_
      refine g_put hx hb hts S.2.2.2.1 hK hP hD hS in_X13 tyX13 tyX13_ok nmX13 0 rfl rfl 2 (by decide) q739 (fun _ h9 => h9) rfl (v := .null) rfl rfl rfl (Nat.le_of_ble_eq_true rfl) (w' := [(o, .inr (12, [.int (0 : Int32), .ref o, .null, .null, .null, .null, .int (0 : Int32)]))]) rfl dJ11_init_2_38 ?_
      clear hP hD hS
      intro H locs hP hD hS
      refine lv_aload_n hx hb dJ11_init_2_41 rfl (lv_at hl 0 rfl) ?_
      refine lv_aload_nN hx hb dJ11_init_2_42 rfl (lv_at hl 1 rfl) ?_
      refine g_put hx hb hts S.2.2.2.1 hK hP hD hS in_X13 tyX13 tyX13_ok nmX13 0 rfl rfl 4 (by decide) q737 (fun _ h9 => h9) rfl (v := .null) rfl rfl rfl (Nat.le_of_ble_eq_true rfl) (w' := [(o, .inr (12, [.int (0 : Int32), .ref o, .null, .null, .null, .null, .int (0 : Int32)]))]) rfl dJ11_init_2_43 ?_
      clear hP hD hS
      intro H locs hP hD hS
      refine lv_aload_n hx hb dJ11_init_2_46 rfl (lv_at hl 0 rfl) ?_
      refine lv_aload_n hx hb dJ11_init_2_47 rfl (lv_at hl 2 rfl) ?_
      refine g_put hx hb hts S.2.2.2.1 hK hP hD hS in_X13 tyX13 tyX13_ok nmX13 0 rfl rfl 1 (by decide) q738 (fun _ h9 => h9) rfl (v := .ref o1) rfl rfl rfl (Nat.le_of_ble_eq_true rfl) (w' := [(o, .inr (12, [.int (0 : Int32), .ref o1, .null, .null, .null, .null, .int (0 : Int32)]))]) rfl dJ11_init_2_48 ?_
      clear hP hD hS
      intro H locs hP hD hS
      refine lv_iload_n hx hb dJ11_init_2_51 rfl (lv_at hl 3 rfl) ?_
      refine lv_if_ne (tgt := 60) hx hb dJ11_init_2_52 (by decide) (fun hc => absurd hc (by decide)) (fun hc => ?_)
      clear hc
      refine lv_aload_n hx hb dJ11_init_2_55 rfl (lv_at hl 0 rfl) ?_
      refine lv_null hx hb dJ11_init_2_56 ?_
      refine g_put hx hb hts S.2.2.2.1 hK hP hD hS in_X13 tyX13 tyX13_ok nmX13 0 rfl rfl 3 (by decide) q740 (fun _ h9 => h9) rfl (v := .null) rfl rfl rfl (Nat.le_of_ble_eq_true rfl) (w' := [(o, .inr (12, [.int (0 : Int32), .ref o1, .null, .null, .null, .null, .int (0 : Int32)]))]) rfl dJ11_init_2_57 ?_
      clear hP hD hS
      intro H locs hP hD hS
      refine W.widen (k := 0) (n := 0) (Nat.le_of_ble_eq_true rfl) (Nat.le_of_ble_eq_true rfl) ?_
      exact hret0 (fun _ => 0) trivial _ _ _ _ dJ11_init_2_60 hP hD hS
    · refine va_gets hx hb hsi hS S.2.2.2.1 (hts _ q706) (fun _ h9 => h9) dJ11_init_2_17 ?_
      refine g_put hx hb hts S.2.2.2.1 hK hP hD hS in_X13 tyX13 tyX13_ok nmX13 0 rfl rfl 3 (by decide) q740 (fun _ h9 => h9) rfl (v := .ref ts_2) rfl rfl rfl (Nat.le_of_ble_eq_true rfl) (w' := [(o, .inr (12, [.int (0 : Int32), .ref o, .ref ts_1, .ref ts_2, .null, .null, .int (0 : Int32)]))]) rfl dJ11_init_2_20 ?_
      clear hP hD hS
      intro H locs hP hD hS
      refine lv_iload hx hb dJ11_init_2_23 (lv_at hl 4 rfl) ?_
      refine lv_if_eq (tgt := 36) hx hb dJ11_init_2_25 (by decide) (fun hc => ?_) (fun hc => absurd (by decide) hc)
      clear hc
      refine lv_aload_n hx hb dJ11_init_2_36 rfl (lv_at hl 0 rfl) ?_
      refine lv_null hx hb dJ11_init_2_37 ?_
      refine g_put hx hb hts S.2.2.2.1 hK hP hD hS in_X13 tyX13 tyX13_ok nmX13 0 rfl rfl 2 (by decide) q739 (fun _ h9 => h9) rfl (v := .null) rfl rfl rfl (Nat.le_of_ble_eq_true rfl) (w' := [(o, .inr (12, [.int (0 : Int32), .ref o, .null, .ref ts_2, .null, .null, .int (0 : Int32)]))]) rfl dJ11_init_2_38 ?_
      clear hP hD hS
      intro H locs hP hD hS
      refine lv_aload_n hx hb dJ11_init_2_41 rfl (lv_at hl 0 rfl) ?_
      refine lv_aload_nN hx hb dJ11_init_2_42 rfl (lv_at hl 1 rfl) ?_
      refine g_put hx hb hts S.2.2.2.1 hK hP hD hS in_X13 tyX13 tyX13_ok nmX13 0 rfl rfl 4 (by decide) q737 (fun _ h9 => h9) rfl (v := .null) rfl rfl rfl (Nat.le_of_ble_eq_true rfl) (w' := [(o, .inr (12, [.int (0 : Int32), .ref o, .null, .ref ts_2, .null, .null, .int (0 : Int32)]))]) rfl dJ11_init_2_43 ?_
      clear hP hD hS
      intro H locs hP hD hS
      refine lv_aload_n hx hb dJ11_init_2_46 rfl (lv_at hl 0 rfl) ?_
      refine lv_aload_n hx hb dJ11_init_2_47 rfl (lv_at hl 2 rfl) ?_
      refine g_put hx hb hts S.2.2.2.1 hK hP hD hS in_X13 tyX13 tyX13_ok nmX13 0 rfl rfl 1 (by decide) q738 (fun _ h9 => h9) rfl (v := .ref o1) rfl rfl rfl (Nat.le_of_ble_eq_true rfl) (w' := [(o, .inr (12, [.int (0 : Int32), .ref o1, .null, .ref ts_2, .null, .null, .int (0 : Int32)]))]) rfl dJ11_init_2_48 ?_
      clear hP hD hS
      intro H locs hP hD hS
      refine lv_iload_n hx hb dJ11_init_2_51 rfl (lv_at hl 3 rfl) ?_
      refine lv_if_ne (tgt := 60) hx hb dJ11_init_2_52 (by decide) (fun hc => absurd hc (by decide)) (fun hc => ?_)
      clear hc
      refine lv_aload_n hx hb dJ11_init_2_55 rfl (lv_at hl 0 rfl) ?_
      refine lv_null hx hb dJ11_init_2_56 ?_
      refine g_put hx hb hts S.2.2.2.1 hK hP hD hS in_X13 tyX13 tyX13_ok nmX13 0 rfl rfl 3 (by decide) q740 (fun _ h9 => h9) rfl (v := .null) rfl rfl rfl (Nat.le_of_ble_eq_true rfl) (w' := [(o, .inr (12, [.int (0 : Int32), .ref o1, .null, .null, .null, .null, .int (0 : Int32)]))]) rfl dJ11_init_2_57 ?_
      clear hP hD hS
      intro H locs hP hD hS
      refine W.widen (k := 0) (n := 0) (Nat.le_of_ble_eq_true rfl) (Nat.le_of_ble_eq_true rfl) ?_
      exact hret0 (fun _ => 0) trivial _ _ _ _ dJ11_init_2_60 hP hD hS
set_option maxHeartbeats 4000000 in
set_option maxRecDepth 100000 in
theorem tJ12_init_X13r (l : Launch) (D : va_G) (d : Nat → ClassId) (z : ZT) (o : Nat) (o1 : Nat) : CVS l yJ12_init (ws_ yJ12_init cJ12_init 5 (Option.none : Option Jvm.ClassFile.FieldType)) (rmc 2 0 0 36) D d z [.ref o, .null, .ref o1, .int (0 : Int32), .int (0 : Int32)] ([(o, .inr (12, [.int (0 : Int32), .null, .null, .null, .null, .null, .int (0 : Int32)]))]) (fun u : UU => [(o, .inr (12, [.int (0 : Int32), .ref o1, .null, .null, .null, .null, .int (0 : Int32)]))]) (fun _ => True) := by
  refine CVS.of (rt := .int) (own := RJ12) rfl (by decide) (Nat.le_of_ble_eq_true rfl) ?_
  intro p e s m args below meth c A Q ls S hin hK hP hD hZ hS hA hl hret0
  have hx := S.1
  have hb := S.2.1
  have hts := S.2.2.2.2
  have hl : lv_has ls 5 [(0, .ref o), (1, .null), (2, .ref o1), (3, .int (0 : Int32)), (4, .int (0 : Int32))] := hl
  refine lv_aload_n hx hb dJ12_init_0 rfl (lv_at hl 0 rfl) ?_
  refine lv_aload_nN hx hb dJ12_init_1 rfl (lv_at hl 1 rfl) ?_
  refine lv_aload_n hx hb dJ12_init_2 rfl (lv_at hl 2 rfl) ?_
  refine lv_iload_n hx hb dJ12_init_3 rfl (lv_at hl 3 rfl) ?_
  refine lv_iload hx hb dJ12_init_4 (lv_at hl 4 rfl) ?_
  refine run_vS0 (wr := []) (w' := fun u : UU => [(o, .inr (12, [.int (0 : Int32), .ref o1, .null, .null, .null, .null, .int (0 : Int32)]))]) (va_runI (As := [.null, .ref o1, .int (0 : Int32), .int (0 : Int32)]) (rest := []) S (tJ11_init_2_X13r l D d z o o1 _) (cwI 4 hts (lw_meth q731) rfl rfl rfl (hts _ q113) (hts _ q729) (hts _ q730) rfl (by decide +kernel) ⟨(Nat.le_of_ble_eq_true rfl), (Nat.le_of_ble_eq_true rfl)⟩) ⟨Pw.blind, fun U hU hW => Pw.cut (tl := []) hK (by rw [List.append_nil]; exact hP) (by rw [List.append_nil]; exact hD) hZ hS hA [0] rfl rfl hU hW⟩ rfl rfl hl.1 rfl (lv_room (Nat.le_of_ble_eq_true rfl)) dJ12_init_6 ⟨(Nat.le_of_ble_eq_true rfl), (Nat.le_of_ble_eq_true rfl)⟩) hP hD hS hA [0] [] [0] rfl rfl rfl rfl (by decide) rfl (fun _ => rfl) ?_
  clear hP hD hS
  intro u_1 _ H locs hP hD hS
  refine W.widen (k := 0) (n := 0) (Nat.le_of_ble_eq_true rfl) (Nat.le_of_ble_eq_true rfl) ?_
  exact hret0 (fun _ => 0) trivial _ _ _ _ dJ12_init_9 hP hD hS
set_option maxHeartbeats 4000000 in
set_option maxRecDepth 100000 in
theorem tX10_init_X13r (l : Launch) (D : va_G) (d : Nat → ClassId) (z : ZT) (o : Nat) (p0 : Int32) (o1 : Nat) : CVS l yX10_init (ws_ yX10_init cX10_init 3 (Option.none : Option Jvm.ClassFile.FieldType)) (rmc 3 0 0 60) D d z [.ref o, .int p0, .ref o1] ([(o, .inr (12, [.int (0 : Int32), .null, .null, .null, .null, .null, .int (0 : Int32)]))]) (fun u : UU => [(o, .inr (12, [.int p0, .ref o1, .null, .null, .null, .null, .int (0 : Int32)]))]) (fun _ => True) := by
  refine CVS.of (rt := .int) (own := RX10) rfl (by decide) (Nat.le_of_ble_eq_true rfl) ?_
  intro p e s m args below meth c A Q ls S hin hK hP hD hZ hS hA hl hret0
  have hx := S.1
  have hb := S.2.1
  have hts := S.2.2.2.2
  have hl : lv_has ls 3 [(0, .ref o), (1, .int p0), (2, .ref o1)] := hl
  refine lv_aload_n hx hb dX10_init_0 rfl (lv_at hl 0 rfl) ?_
  refine lv_null hx hb dX10_init_1 ?_
  refine lv_aload_n hx hb dX10_init_2 rfl (lv_at hl 2 rfl) ?_
  refine lv_iconst (v := 0) hx hb dX10_init_3 (by decide) ?_
  refine lv_iconst (v := 0) hx hb dX10_init_4 (by decide) ?_
  refine run_vS0 (wr := []) (w' := fun u : UU => [(o, .inr (12, [.int (0 : Int32), .ref o1, .null, .null, .null, .null, .int (0 : Int32)]))]) (va_runI (As := [.null, .ref o1, .int (0 : Int32), .int (0 : Int32)]) (rest := []) S (tJ12_init_X13r l D d z o o1 _) (cwI 4 hts (lw_meth q728) rfl rfl rfl (hts _ q114) (hts _ q1317) (hts _ q727) rfl (by decide +kernel) ⟨(Nat.le_of_ble_eq_true rfl), (Nat.le_of_ble_eq_true rfl)⟩) ⟨Pw.blind, fun U hU hW => Pw.cut (tl := []) hK (by rw [List.append_nil]; exact hP) (by rw [List.append_nil]; exact hD) hZ hS hA [0] rfl rfl hU hW⟩ rfl rfl hl.1 rfl (lv_room (Nat.le_of_ble_eq_true rfl)) dX10_init_5 ⟨(Nat.le_of_ble_eq_true rfl), (Nat.le_of_ble_eq_true rfl)⟩) hP hD hS hA [0] [] [0] rfl rfl rfl rfl (by decide) rfl (fun _ => rfl) ?_
  clear hP hD hS
  intro u_1 _ H locs hP hD hS
  refine lv_aload_n hx hb dX10_init_8 rfl (lv_at hl 0 rfl) ?_
  refine lv_iload_n hx hb dX10_init_9 rfl (lv_at hl 1 rfl) ?_
  refine g_putF hx hb hts S.2.2.2.1 hK hP hD hS in_X13 tyX13 tyX13_ok nmX13 0 rfl rfl 0 (by decide) q1318 (fun _ h9 => h9) rfl hin rfl (v := .int p0) rfl rfl rfl (Nat.le_of_ble_eq_true rfl) (w' := [(o, .inr (12, [.int p0, .ref o1, .null, .null, .null, .null, .int (0 : Int32)]))]) rfl dX10_init_10 ?_
  clear hP hD hS
  intro H locs hP hD hS
  refine W.widen (k := 0) (n := 0) (Nat.le_of_ble_eq_true rfl) (Nat.le_of_ble_eq_true rfl) ?_
  exact hret0 (fun _ => 0) trivial _ _ _ _ dX10_init_13 hP hD hS
set_option maxHeartbeats 4000000 in
set_option maxRecDepth 100000 in
theorem tX13_initr (l : Launch) (D : va_G) (d : Nat → ClassId) (z : ZT) (o : Nat) (p0 : Int32) (o1 : Nat) : CVS l yX13_init (ws_ yX13_init cX13_init 3 (Option.none : Option Jvm.ClassFile.FieldType)) (rmc 4 0 0 82) D d z [.ref o, .int p0, .ref o1] ([(o, .inr (12, [.int (0 : Int32), .null, .null, .null, .null, .null, .int (0 : Int32)]))]) (fun u : UU => [(o, .inr (12, [.int p0, .ref o1, .null, .null, .null, .null, .int (0 : Int32)]))]) (fun _ => True) := by
  refine CVS.of (rt := .int) (own := RX13) rfl (by decide) (Nat.le_of_ble_eq_true rfl) ?_
  intro p e s m args below meth c A Q ls S hin hK hP hD hZ hS hA hl hret0
  have hx := S.1
  have hb := S.2.1
  have hts := S.2.2.2.2
  have hl : lv_has ls 3 [(0, .ref o), (1, .int p0), (2, .ref o1)] := hl
  refine lv_aload_n hx hb dX13_init_0 rfl (lv_at hl 0 rfl) ?_
  refine lv_iload_n hx hb dX13_init_1 rfl (lv_at hl 1 rfl) ?_
  refine lv_aload_n hx hb dX13_init_2 rfl (lv_at hl 2 rfl) ?_
  refine run_vS0 (wr := []) (w' := fun u : UU => [(o, .inr (12, [.int p0, .ref o1, .null, .null, .null, .null, .int (0 : Int32)]))]) (va_runI (As := [.int p0, .ref o1]) (rest := []) S (tX10_init_X13r l D d z o p0 o1 _) (cwI 2 hts (lw_meth q1316) rfl rfl rfl (hts _ q122) (hts _ q1375) (hts _ q1315) rfl (by decide +kernel) ⟨(Nat.le_of_ble_eq_true rfl), (Nat.le_of_ble_eq_true rfl)⟩) ⟨Pw.blind, fun U hU hW => Pw.cut (tl := []) hK (by rw [List.append_nil]; exact hP) (by rw [List.append_nil]; exact hD) hZ hS hA [0] rfl rfl hU hW⟩ rfl rfl hl.1 rfl (lv_room (Nat.le_of_ble_eq_true rfl)) dX13_init_3 ⟨(Nat.le_of_ble_eq_true rfl), (Nat.le_of_ble_eq_true rfl)⟩) hP hD hS hA [0] [] [0] rfl rfl rfl rfl (by decide) rfl (fun _ => rfl) ?_
  clear hP hD hS
  intro u_1 _ H locs hP hD hS
  refine W.widen (k := 0) (n := 0) (Nat.le_of_ble_eq_true rfl) (Nat.le_of_ble_eq_true rfl) ?_
  exact hret0 (fun _ => 0) trivial _ _ _ _ dX13_init_6 hP hD hS
set_option maxHeartbeats 4000000 in
set_option maxRecDepth 100000 in
theorem tJ11_init_2_X14n (l : Launch) (D : va_G) (d : Nat → ClassId) (z : ZT) (o : Nat) : CVS l yJ11_init_2 (ws_ yJ11_init_2 cJ11_init_2 5 (Option.none : Option Jvm.ClassFile.FieldType)) (rmc 1 0 0 12) D d z [.ref o, .null, .null, .int (0 : Int32), .int (0 : Int32)] ([(o, .inr (13, [.int (0 : Int32), .null, .null, .null, .null, .null, .int (0 : Int32)]))]) (fun u : UU => [(o, .inr (13, [.int (0 : Int32), .null, .null, .null, .null, .null, .int (0 : Int32)]))]) (fun _ => True) := by
  refine CVS.of (rt := .int) (own := RJ11) rfl (by decide) (Nat.le_of_ble_eq_true rfl) ?_
  intro p e s m args below meth c A Q ls S hin hK hP hD hZ hS hA hl hret0
  have hx := S.1
  have hb := S.2.1
  have hts := S.2.2.2.2
  have hl : lv_has ls 5 [(0, .ref o), (1, .null), (2, .null), (3, .int (0 : Int32)), (4, .int (0 : Int32))] := hl
  refine lv_aload_n hx hb dJ11_init_2_0 rfl (lv_at hl 0 rfl) ?_
  refine W.objInit hx hb S.2.2.2.1 (hts _ q703) (hts _ q136) (hts _ q137) rfl (by rw [S.2.2.1]; exact hl.1) rfl dJ11_init_2_1 (Nat.le_of_ble_eq_true rfl) (Nat.le_of_ble_eq_true rfl) ?_
  refine W.eq (g2 := F0 m 4 ls []) rfl ?_
  refine lv_aload_n hx hb dJ11_init_2_4 rfl (lv_at hl 0 rfl) ?_
  refine lv_aload_n hx hb dJ11_init_2_5 rfl (lv_at hl 0 rfl) ?_
  refine g_put hx hb hts S.2.2.2.1 hK hP hD hS in_X14 tyX14 tyX14_ok nmX14 0 rfl rfl 1 (by decide) q738 (fun _ h9 => h9) rfl (v := .ref o) rfl rfl rfl (Nat.le_of_ble_eq_true rfl) (w' := [(o, .inr (13, [.int (0 : Int32), .ref o, .null, .null, .null, .null, .int (0 : Int32)]))]) rfl dJ11_init_2_6 ?_
  clear hP hD hS
  intro H locs hP hD hS
  refine lv_aload_n hx hb dJ11_init_2_9 rfl (lv_at hl 0 rfl) ?_
  rcases hZ.2.1 with hsi | ⟨ts_1, hsi⟩
  · refine va_gets hx hb hsi hS S.2.2.2.1 (hts _ q704) (fun _ h9 => h9) dJ11_init_2_10 ?_
    refine g_put hx hb hts S.2.2.2.1 hK hP hD hS in_X14 tyX14 tyX14_ok nmX14 0 rfl rfl 2 (by decide) q739 (fun _ h9 => h9) rfl (v := .null) rfl rfl rfl (Nat.le_of_ble_eq_true rfl) (w' := [(o, .inr (13, [.int (0 : Int32), .ref o, .null, .null, .null, .null, .int (0 : Int32)]))]) rfl dJ11_init_2_13 ?_
    clear hP hD hS
    intro H locs hP hD hS
    refine lv_aload_n hx hb dJ11_init_2_16 rfl (lv_at hl 0 rfl) ?_
    rcases hZ.2.2.1 with hsi | ⟨ts_2, hsi⟩
    · refine va_gets hx hb hsi hS S.2.2.2.1 (hts _ q706) (fun _ h9 => h9) dJ11_init_2_17 ?_
      refine g_put hx hb hts S.2.2.2.1 hK hP hD hS in_X14 tyX14 tyX14_ok nmX14 0 rfl rfl 3 (by decide) q740 (fun _ h9 => h9) rfl (v := .null) rfl rfl rfl (Nat.le_of_ble_eq_true rfl) (w' := [(o, .inr (13, [.int (0 : Int32), .ref o, .null, .null, .null, .null, .int (0 : Int32)]))]) rfl dJ11_init_2_20 ?_
      clear hP hD hS
      intro H locs hP hD hS
      refine lv_iload hx hb dJ11_init_2_23 (lv_at hl 4 rfl) ?_
      refine lv_if_eq (tgt := 36) hx hb dJ11_init_2_25 (by decide) (fun hc => ?_) (fun hc => absurd (by decide) hc)
      clear hc
      refine lv_aload_n hx hb dJ11_init_2_36 rfl (lv_at hl 0 rfl) ?_
      refine lv_null hx hb dJ11_init_2_37 ?_
      refine g_put hx hb hts S.2.2.2.1 hK hP hD hS in_X14 tyX14 tyX14_ok nmX14 0 rfl rfl 2 (by decide) q739 (fun _ h9 => h9) rfl (v := .null) rfl rfl rfl (Nat.le_of_ble_eq_true rfl) (w' := [(o, .inr (13, [.int (0 : Int32), .ref o, .null, .null, .null, .null, .int (0 : Int32)]))]) rfl dJ11_init_2_38 ?_
      clear hP hD hS
      intro H locs hP hD hS
      refine lv_aload_n hx hb dJ11_init_2_41 rfl (lv_at hl 0 rfl) ?_
      refine lv_aload_nN hx hb dJ11_init_2_42 rfl (lv_at hl 1 rfl) ?_
      refine g_put hx hb hts S.2.2.2.1 hK hP hD hS in_X14 tyX14 tyX14_ok nmX14 0 rfl rfl 4 (by decide) q737 (fun _ h9 => h9) rfl (v := .null) rfl rfl rfl (Nat.le_of_ble_eq_true rfl) (w' := [(o, .inr (13, [.int (0 : Int32), .ref o, .null, .null, .null, .null, .int (0 : Int32)]))]) rfl dJ11_init_2_43 ?_
      clear hP hD hS
      intro H locs hP hD hS
      refine lv_aload_n hx hb dJ11_init_2_46 rfl (lv_at hl 0 rfl) ?_
      refine lv_aload_nN hx hb dJ11_init_2_47 rfl (lv_at hl 2 rfl) ?_
      refine g_put hx hb hts S.2.2.2.1 hK hP hD hS in_X14 tyX14 tyX14_ok nmX14 0 rfl rfl 1 (by decide) q738 (fun _ h9 => h9) rfl (v := .null) rfl rfl rfl (Nat.le_of_ble_eq_true rfl) (w' := [(o, .inr (13, [.int (0 : Int32), .null, .null, .null, .null, .null, .int (0 : Int32)]))]) rfl dJ11_init_2_48 ?_
      clear hP hD hS
      intro H locs hP hD hS
      refine lv_iload_n hx hb dJ11_init_2_51 rfl (lv_at hl 3 rfl) ?_
      refine lv_if_ne (tgt := 60) hx hb dJ11_init_2_52 (by decide) (fun hc => absurd hc (by decide)) (fun hc => ?_)
      clear hc
      refine lv_aload_n hx hb dJ11_init_2_55 rfl (lv_at hl 0 rfl) ?_
      refine lv_null hx hb dJ11_init_2_56 ?_
      refine g_put hx hb hts S.2.2.2.1 hK hP hD hS in_X14 tyX14 tyX14_ok nmX14 0 rfl rfl 3 (by decide) q740 (fun _ h9 => h9) rfl (v := .null) rfl rfl rfl (Nat.le_of_ble_eq_true rfl) (w' := [(o, .inr (13, [.int (0 : Int32), .null, .null, .null, .null, .null, .int (0 : Int32)]))]) rfl dJ11_init_2_57 ?_
      clear hP hD hS
      intro H locs hP hD hS
      refine W.widen (k := 0) (n := 0) (Nat.le_of_ble_eq_true rfl) (Nat.le_of_ble_eq_true rfl) ?_
      exact hret0 (fun _ => 0) trivial _ _ _ _ dJ11_init_2_60 hP hD hS
    · refine va_gets hx hb hsi hS S.2.2.2.1 (hts _ q706) (fun _ h9 => h9) dJ11_init_2_17 ?_
      refine g_put hx hb hts S.2.2.2.1 hK hP hD hS in_X14 tyX14 tyX14_ok nmX14 0 rfl rfl 3 (by decide) q740 (fun _ h9 => h9) rfl (v := .ref ts_2) rfl rfl rfl (Nat.le_of_ble_eq_true rfl) (w' := [(o, .inr (13, [.int (0 : Int32), .ref o, .null, .ref ts_2, .null, .null, .int (0 : Int32)]))]) rfl dJ11_init_2_20 ?_
      clear hP hD hS
      intro H locs hP hD hS
      refine lv_iload hx hb dJ11_init_2_23 (lv_at hl 4 rfl) ?_
      refine lv_if_eq (tgt := 36) hx hb dJ11_init_2_25 (by decide) (fun hc => ?_) (fun hc => absurd (by decide) hc)
      clear hc
      refine lv_aload_n hx hb dJ11_init_2_36 rfl (lv_at hl 0 rfl) ?_
      refine lv_null hx hb dJ11_init_2_37 ?_
      refine g_put hx hb hts S.2.2.2.1 hK hP hD hS in_X14 tyX14 tyX14_ok nmX14 0 rfl rfl 2 (by decide) q739 (fun _ h9 => h9) rfl (v := .null) rfl rfl rfl (Nat.le_of_ble_eq_true rfl) (w' := [(o, .inr (13, [.int (0 : Int32), .ref o, .null, .ref ts_2, .null, .null, .int (0 : Int32)]))]) rfl dJ11_init_2_38 ?_
      clear hP hD hS
      intro H locs hP hD hS
      refine lv_aload_n hx hb dJ11_init_2_41 rfl (lv_at hl 0 rfl) ?_
      refine lv_aload_nN hx hb dJ11_init_2_42 rfl (lv_at hl 1 rfl) ?_
      refine g_put hx hb hts S.2.2.2.1 hK hP hD hS in_X14 tyX14 tyX14_ok nmX14 0 rfl rfl 4 (by decide) q737 (fun _ h9 => h9) rfl (v := .null) rfl rfl rfl (Nat.le_of_ble_eq_true rfl) (w' := [(o, .inr (13, [.int (0 : Int32), .ref o, .null, .ref ts_2, .null, .null, .int (0 : Int32)]))]) rfl dJ11_init_2_43 ?_
      clear hP hD hS
      intro H locs hP hD hS
      refine lv_aload_n hx hb dJ11_init_2_46 rfl (lv_at hl 0 rfl) ?_
      refine lv_aload_nN hx hb dJ11_init_2_47 rfl (lv_at hl 2 rfl) ?_
      refine g_put hx hb hts S.2.2.2.1 hK hP hD hS in_X14 tyX14 tyX14_ok nmX14 0 rfl rfl 1 (by decide) q738 (fun _ h9 => h9) rfl (v := .null) rfl rfl rfl (Nat.le_of_ble_eq_true rfl) (w' := [(o, .inr (13, [.int (0 : Int32), .null, .null, .ref ts_2, .null, .null, .int (0 : Int32)]))]) rfl dJ11_init_2_48 ?_
      clear hP hD hS
      intro H locs hP hD hS
      refine lv_iload_n hx hb dJ11_init_2_51 rfl (lv_at hl 3 rfl) ?_
      refine lv_if_ne (tgt := 60) hx hb dJ11_init_2_52 (by decide) (fun hc => absurd hc (by decide)) (fun hc => ?_)
      clear hc
      refine lv_aload_n hx hb dJ11_init_2_55 rfl (lv_at hl 0 rfl) ?_
      refine lv_null hx hb dJ11_init_2_56 ?_
      refine g_put hx hb hts S.2.2.2.1 hK hP hD hS in_X14 tyX14 tyX14_ok nmX14 0 rfl rfl 3 (by decide) q740 (fun _ h9 => h9) rfl (v := .null) rfl rfl rfl (Nat.le_of_ble_eq_true rfl) (w' := [(o, .inr (13, [.int (0 : Int32), .null, .null, .null, .null, .null, .int (0 : Int32)]))]) rfl dJ11_init_2_57 ?_
      clear hP hD hS
      intro H locs hP hD hS
      refine W.widen (k := 0) (n := 0) (Nat.le_of_ble_eq_true rfl) (Nat.le_of_ble_eq_true rfl) ?_
      exact hret0 (fun _ => 0) trivial _ _ _ _ dJ11_init_2_60 hP hD hS
  · refine va_gets hx hb hsi hS S.2.2.2.1 (hts _ q704) (fun _ h9 => h9) dJ11_init_2_10 ?_
    refine g_put hx hb hts S.2.2.2.1 hK hP hD hS in_X14 tyX14 tyX14_ok nmX14 0 rfl rfl 2 (by decide) q739 (fun _ h9 => h9) rfl (v := .ref ts_1) rfl rfl rfl (Nat.le_of_ble_eq_true rfl) (w' := [(o, .inr (13, [.int (0 : Int32), .ref o, .ref ts_1, .null, .null, .null, .int (0 : Int32)]))]) rfl dJ11_init_2_13 ?_
    clear hP hD hS
    intro H locs hP hD hS
    refine lv_aload_n hx hb dJ11_init_2_16 rfl (lv_at hl 0 rfl) ?_
    rcases hZ.2.2.1 with hsi | ⟨ts_2, hsi⟩
    · refine va_gets hx hb hsi hS S.2.2.2.1 (hts _ q706) (fun _ h9 => h9) dJ11_init_2_17 ?_
      refine g_put hx hb hts S.2.2.2.1 hK hP hD hS in_X14 tyX14 tyX14_ok nmX14 0 rfl rfl 3 (by decide) q740 (fun _ h9 => h9) rfl (v := .null) rfl rfl rfl (Nat.le_of_ble_eq_true rfl) (w' := [(o, .inr (13, [.int (0 : Int32), .ref o, .ref ts_1, .null, .null, .null, .int (0 : Int32)]))]) rfl dJ11_init_2_20 ?_
      clear hP hD hS
      intro H locs hP hD hS
      refine lv_iload hx hb dJ11_init_2_23 (lv_at hl 4 rfl) ?_
      refine lv_if_eq (tgt := 36) hx hb dJ11_init_2_25 (by decide) (fun hc => ?_) (fun hc => absurd (by decide) hc)
      clear hc
      refine lv_aload_n hx hb dJ11_init_2_36 rfl (lv_at hl 0 rfl) ?_
      refine lv_null hx hb dJ11_init_2_37 ?_
      refine g_put hx hb hts S.2.2.2.1 hK hP hD hS in_X14 tyX14 tyX14_ok nmX14 0 rfl rfl 2 (by decide) q739 (fun _ h9 => h9) rfl (v := .null) rfl rfl rfl (Nat.le_of_ble_eq_true rfl) (w' := [(o, .inr (13, [.int (0 : Int32), .ref o, .null, .null, .null, .null, .int (0 : Int32)]))]) rfl dJ11_init_2_38 ?_
      clear hP hD hS
      intro H locs hP hD hS
      refine lv_aload_n hx hb dJ11_init_2_41 rfl (lv_at hl 0 rfl) ?_
      refine lv_aload_nN hx hb dJ11_init_2_42 rfl (lv_at hl 1 rfl) ?_
      refine g_put hx hb hts S.2.2.2.1 hK hP hD hS in_X14 tyX14 tyX14_ok nmX14 0 rfl rfl 4 (by decide) q737 (fun _ h9 => h9) rfl (v := .null) rfl rfl rfl (Nat.le_of_ble_eq_true rfl) (w' := [(o, .inr (13, [.int (0 : Int32), .ref o, .null, .null, .null, .null, .int (0 : Int32)]))]) rfl dJ11_init_2_43 ?_
      clear hP hD hS
      intro H locs hP hD hS
      refine lv_aload_n hx hb dJ11_init_2_46 rfl (lv_at hl 0 rfl) ?_
      refine lv_aload_nN hx hb dJ11_init_2_47 rfl (lv_at hl 2 rfl) ?_
      refine g_put hx hb hts S.2.2.2.1 hK hP hD hS in_X14 tyX14 tyX14_ok nmX14 0 rfl rfl 1 (by decide) q738 (fun _ h9 => h9) rfl (v := .null) rfl rfl rfl (Nat.le_of_ble_eq_true rfl) (w' := [(o, .inr (13, [.int (0 : Int32), .null, .null, .null, .null, .null, .int (0 : Int32)]))]) rfl dJ11_init_2_48 ?_
      clear hP hD hS
      intro H locs hP hD hS
      refine lv_iload_n hx hb dJ11_init_2_51 rfl (lv_at hl 3 rfl) ?_
      refine lv_if_ne (tgt := 60) hx hb dJ11_init_2_52 (by decide) (fun hc => absurd hc (by decide)) (fun hc => ?_)
      clear hc
      refine lv_aload_n hx hb dJ11_init_2_55 rfl (lv_at hl 0 rfl) ?_
      refine lv_null hx hb dJ11_init_2_56 ?_
      refine g_put hx hb hts S.2.2.2.1 hK hP hD hS in_X14 tyX14 tyX14_ok nmX14 0 rfl rfl 3 (by decide) q740 (fun _ h9 => h9) rfl (v := .null) rfl rfl rfl (Nat.le_of_ble_eq_true rfl) (w' := [(o, .inr (13, [.int (0 : Int32), .null, .null, .null, .null, .null, .int (0 : Int32)]))]) rfl dJ11_init_2_57 ?_
      clear hP hD hS
      intro H locs hP hD hS
      refine W.widen (k := 0) (n := 0) (Nat.le_of_ble_eq_true rfl) (Nat.le_of_ble_eq_true rfl) ?_
      exact hret0 (fun _ => 0) trivial _ _ _ _ dJ11_init_2_60 hP hD hS
    · refine va_gets hx hb hsi hS S.2.2.2.1 (hts _ q706) (fun _ h9 => h9) dJ11_init_2_17 ?_
      refine g_put hx hb hts S.2.2.2.1 hK hP hD hS in_X14 tyX14 tyX14_ok nmX14 0 rfl rfl 3 (by decide) q740 (fun _ h9 => h9) rfl (v := .ref ts_2) rfl rfl rfl (Nat.le_of_ble_eq_true rfl) (w' := [(o, .inr (13, [.int (0 : Int32), .ref o, .ref ts_1, .ref ts_2, .null, .null, .int (0 : Int32)]))]) rfl dJ11_init_2_20 ?_
      clear hP hD hS
      intro H locs hP hD hS
      refine lv_iload hx hb dJ11_init_2_23 (lv_at hl 4 rfl) ?_
      refine lv_if_eq (tgt := 36) hx hb dJ11_init_2_25 (by decide) (fun hc => ?_) (fun hc => absurd (by decide) hc)
      clear hc
      refine lv_aload_n hx hb dJ11_init_2_36 rfl (lv_at hl 0 rfl) ?_
      refine lv_null hx hb dJ11_init_2_37 ?_
      refine g_put hx hb hts S.2.2.2.1 hK hP hD hS in_X14 tyX14 tyX14_ok nmX14 0 rfl rfl 2 (by decide) q739 (fun _ h9 => h9) rfl (v := .null) rfl rfl rfl (Nat.le_of_ble_eq_true rfl) (w' := [(o, .inr (13, [.int (0 : Int32), .ref o, .null, .ref ts_2, .null, .null, .int (0 : Int32)]))]) rfl dJ11_init_2_38 ?_
      clear hP hD hS
      intro H locs hP hD hS
      refine lv_aload_n hx hb dJ11_init_2_41 rfl (lv_at hl 0 rfl) ?_
      refine lv_aload_nN hx hb dJ11_init_2_42 rfl (lv_at hl 1 rfl) ?_
      refine g_put hx hb hts S.2.2.2.1 hK hP hD hS in_X14 tyX14 tyX14_ok nmX14 0 rfl rfl 4 (by decide) q737 (fun _ h9 => h9) rfl (v := .null) rfl rfl rfl (Nat.le_of_ble_eq_true rfl) (w' := [(o, .inr (13, [.int (0 : Int32), .ref o, .null, .ref ts_2, .null, .null, .int (0 : Int32)]))]) rfl dJ11_init_2_43 ?_
      clear hP hD hS
      intro H locs hP hD hS
      refine lv_aload_n hx hb dJ11_init_2_46 rfl (lv_at hl 0 rfl) ?_
      refine lv_aload_nN hx hb dJ11_init_2_47 rfl (lv_at hl 2 rfl) ?_
      refine g_put hx hb hts S.2.2.2.1 hK hP hD hS in_X14 tyX14 tyX14_ok nmX14 0 rfl rfl 1 (by decide) q738 (fun _ h9 => h9) rfl (v := .null) rfl rfl rfl (Nat.le_of_ble_eq_true rfl) (w' := [(o, .inr (13, [.int (0 : Int32), .null, .null, .ref ts_2, .null, .null, .int (0 : Int32)]))]) rfl dJ11_init_2_48 ?_
      clear hP hD hS
      intro H locs hP hD hS
      refine lv_iload_n hx hb dJ11_init_2_51 rfl (lv_at hl 3 rfl) ?_
      refine lv_if_ne (tgt := 60) hx hb dJ11_init_2_52 (by decide) (fun hc => absurd hc (by decide)) (fun hc => ?_)
      clear hc
      refine lv_aload_n hx hb dJ11_init_2_55 rfl (lv_at hl 0 rfl) ?_
      refine lv_null hx hb dJ11_init_2_56 ?_
      refine g_put hx hb hts S.2.2.2.1 hK hP hD hS in_X14 tyX14 tyX14_ok nmX14 0 rfl rfl 3 (by decide) q740 (fun _ h9 => h9) rfl (v := .null) rfl rfl rfl (Nat.le_of_ble_eq_true rfl) (w' := [(o, .inr (13, [.int (0 : Int32), .null, .null, .null, .null, .null, .int (0 : Int32)]))]) rfl dJ11_init_2_57 ?_
      clear hP hD hS
      intro H locs hP hD hS
      refine W.widen (k := 0) (n := 0) (Nat.le_of_ble_eq_true rfl) (Nat.le_of_ble_eq_true rfl) ?_
      exact hret0 (fun _ => 0) trivial _ _ _ _ dJ11_init_2_60 hP hD hS
set_option maxHeartbeats 4000000 in
set_option maxRecDepth 100000 in
theorem tJ12_init_X14n (l : Launch) (D : va_G) (d : Nat → ClassId) (z : ZT) (o : Nat) : CVS l yJ12_init (ws_ yJ12_init cJ12_init 5 (Option.none : Option Jvm.ClassFile.FieldType)) (rmc 2 0 0 36) D d z [.ref o, .null, .null, .int (0 : Int32), .int (0 : Int32)] ([(o, .inr (13, [.int (0 : Int32), .null, .null, .null, .null, .null, .int (0 : Int32)]))]) (fun u : UU => [(o, .inr (13, [.int (0 : Int32), .null, .null, .null, .null, .null, .int (0 : Int32)]))]) (fun _ => True) := by
  refine CVS.of (rt := .int) (own := RJ12) rfl (by decide) (Nat.le_of_ble_eq_true rfl) ?_
  intro p e s m args below meth c A Q ls S hin hK hP hD hZ hS hA hl hret0
  have hx := S.1
  have hb := S.2.1
  have hts := S.2.2.2.2
  have hl : lv_has ls 5 [(0, .ref o), (1, .null), (2, .null), (3, .int (0 : Int32)), (4, .int (0 : Int32))] := hl
  refine lv_aload_n hx hb dJ12_init_0 rfl (lv_at hl 0 rfl) ?_
  refine lv_aload_nN hx hb dJ12_init_1 rfl (lv_at hl 1 rfl) ?_
  refine lv_aload_nN hx hb dJ12_init_2 rfl (lv_at hl 2 rfl) ?_
  refine lv_iload_n hx hb dJ12_init_3 rfl (lv_at hl 3 rfl) ?_
  refine lv_iload hx hb dJ12_init_4 (lv_at hl 4 rfl) ?_
  refine run_vS0 (wr := []) (w' := fun u : UU => [(o, .inr (13, [.int (0 : Int32), .null, .null, .null, .null, .null, .int (0 : Int32)]))]) (va_runI (As := [.null, .null, .int (0 : Int32), .int (0 : Int32)]) (rest := []) S (tJ11_init_2_X14n l D d z o _) (cwI 4 hts (lw_meth q731) rfl rfl rfl (hts _ q113) (hts _ q729) (hts _ q730) rfl (by decide +kernel) ⟨(Nat.le_of_ble_eq_true rfl), (Nat.le_of_ble_eq_true rfl)⟩) ⟨Pw.blind, fun U hU hW => Pw.cut (tl := []) hK (by rw [List.append_nil]; exact hP) (by rw [List.append_nil]; exact hD) hZ hS hA [0] rfl rfl hU hW⟩ rfl rfl hl.1 rfl (lv_room (Nat.le_of_ble_eq_true rfl)) dJ12_init_6 ⟨(Nat.le_of_ble_eq_true rfl), (Nat.le_of_ble_eq_true rfl)⟩) hP hD hS hA [0] [] [0] rfl rfl rfl rfl (by decide) rfl (fun _ => rfl) ?_
  clear hP hD hS
  intro u_1 _ H locs hP hD hS
  refine W.widen (k := 0) (n := 0) (Nat.le_of_ble_eq_true rfl) (Nat.le_of_ble_eq_true rfl) ?_
  exact hret0 (fun _ => 0) trivial _ _ _ _ dJ12_init_9 hP hD hS
set_option maxHeartbeats 4000000 in
set_option maxRecDepth 100000 in
theorem tX10_init_X14n (l : Launch) (D : va_G) (d : Nat → ClassId) (z : ZT) (o : Nat) (p0 : Int32) : CVS l yX10_init (ws_ yX10_init cX10_init 3 (Option.none : Option Jvm.ClassFile.FieldType)) (rmc 3 0 0 60) D d z [.ref o, .int p0, .null] ([(o, .inr (13, [.int (0 : Int32), .null, .null, .null, .null, .null, .int (0 : Int32)]))]) (fun u : UU => [(o, .inr (13, [.int p0, .null, .null, .null, .null, .null, .int (0 : Int32)]))]) (fun _ => True) := by
  refine CVS.of (rt := .int) (own := RX10) rfl (by decide) (Nat.le_of_ble_eq_true rfl) ?_
  intro p e s m args below meth c A Q ls S hin hK hP hD hZ hS hA hl hret0
  have hx := S.1
  have hb := S.2.1
  have hts := S.2.2.2.2
  have hl : lv_has ls 3 [(0, .ref o), (1, .int p0), (2, .null)] := hl
  refine lv_aload_n hx hb dX10_init_0 rfl (lv_at hl 0 rfl) ?_
  refine lv_null hx hb dX10_init_1 ?_
  refine lv_aload_nN hx hb dX10_init_2 rfl (lv_at hl 2 rfl) ?_
  refine lv_iconst (v := 0) hx hb dX10_init_3 (by decide) ?_
  refine lv_iconst (v := 0) hx hb dX10_init_4 (by decide) ?_
  refine run_vS0 (wr := []) (w' := fun u : UU => [(o, .inr (13, [.int (0 : Int32), .null, .null, .null, .null, .null, .int (0 : Int32)]))]) (va_runI (As := [.null, .null, .int (0 : Int32), .int (0 : Int32)]) (rest := []) S (tJ12_init_X14n l D d z o _) (cwI 4 hts (lw_meth q728) rfl rfl rfl (hts _ q114) (hts _ q1317) (hts _ q727) rfl (by decide +kernel) ⟨(Nat.le_of_ble_eq_true rfl), (Nat.le_of_ble_eq_true rfl)⟩) ⟨Pw.blind, fun U hU hW => Pw.cut (tl := []) hK (by rw [List.append_nil]; exact hP) (by rw [List.append_nil]; exact hD) hZ hS hA [0] rfl rfl hU hW⟩ rfl rfl hl.1 rfl (lv_room (Nat.le_of_ble_eq_true rfl)) dX10_init_5 ⟨(Nat.le_of_ble_eq_true rfl), (Nat.le_of_ble_eq_true rfl)⟩) hP hD hS hA [0] [] [0] rfl rfl rfl rfl (by decide) rfl (fun _ => rfl) ?_
  clear hP hD hS
  intro u_1 _ H locs hP hD hS
  refine lv_aload_n hx hb dX10_init_8 rfl (lv_at hl 0 rfl) ?_
  refine lv_iload_n hx hb dX10_init_9 rfl (lv_at hl 1 rfl) ?_
  refine g_putF hx hb hts S.2.2.2.1 hK hP hD hS in_X14 tyX14 tyX14_ok nmX14 0 rfl rfl 0 (by decide) q1318 (fun _ h9 => h9) rfl hin rfl (v := .int p0) rfl rfl rfl (Nat.le_of_ble_eq_true rfl) (w' := [(o, .inr (13, [.int p0, .null, .null, .null, .null, .null, .int (0 : Int32)]))]) rfl dX10_init_10 ?_
  clear hP hD hS
  intro H locs hP hD hS
  refine W.widen (k := 0) (n := 0) (Nat.le_of_ble_eq_true rfl) (Nat.le_of_ble_eq_true rfl) ?_
  exact hret0 (fun _ => 0) trivial _ _ _ _ dX10_init_13 hP hD hS
set_option maxHeartbeats 4000000 in
set_option maxRecDepth 100000 in
theorem tX14_initn (l : Launch) (D : va_G) (d : Nat → ClassId) (z : ZT) (o : Nat) (p0 : Int32) : CVS l yX14_init (ws_ yX14_init cX14_init 2 (Option.none : Option Jvm.ClassFile.FieldType)) (rmc 4 0 0 82) D d z [.ref o, .int p0] ([(o, .inr (13, [.int (0 : Int32), .null, .null, .null, .null, .null, .int (0 : Int32)]))]) (fun u : UU => [(o, .inr (13, [.int p0, .null, .null, .null, .null, .null, .int (0 : Int32)]))]) (fun _ => True) := by
  refine CVS.of (rt := .int) (own := RX14) rfl (by decide) (Nat.le_of_ble_eq_true rfl) ?_
  intro p e s m args below meth c A Q ls S hin hK hP hD hZ hS hA hl hret0
  have hx := S.1
  have hb := S.2.1
  have hts := S.2.2.2.2
  have hl : lv_has ls 2 [(0, .ref o), (1, .int p0)] := hl
  refine lv_aload_n hx hb dX14_init_0 rfl (lv_at hl 0 rfl) ?_
  refine lv_iload_n hx hb dX14_init_1 rfl (lv_at hl 1 rfl) ?_
  refine lv_null hx hb dX14_init_2 ?_
  refine run_vS0 (wr := []) (w' := fun u : UU => [(o, .inr (13, [.int p0, .null, .null, .null, .null, .null, .int (0 : Int32)]))]) (va_runI (As := [.int p0, .null]) (rest := []) S (tX10_init_X14n l D d z o p0 _) (cwI 2 hts (lw_meth q1316) rfl rfl rfl (hts _ q122) (hts _ q1368) (hts _ q1315) rfl (by decide +kernel) ⟨(Nat.le_of_ble_eq_true rfl), (Nat.le_of_ble_eq_true rfl)⟩) ⟨Pw.blind, fun U hU hW => Pw.cut (tl := []) hK (by rw [List.append_nil]; exact hP) (by rw [List.append_nil]; exact hD) hZ hS hA [0] rfl rfl hU hW⟩ rfl rfl hl.1 rfl (lv_room (Nat.le_of_ble_eq_true rfl)) dX14_init_3 ⟨(Nat.le_of_ble_eq_true rfl), (Nat.le_of_ble_eq_true rfl)⟩) hP hD hS hA [0] [] [0] rfl rfl rfl rfl (by decide) rfl (fun _ => rfl) ?_
  clear hP hD hS
  intro u_1 _ H locs hP hD hS
  refine W.widen (k := 0) (n := 0) (Nat.le_of_ble_eq_true rfl) (Nat.le_of_ble_eq_true rfl) ?_
  exact hret0 (fun _ => 0) trivial _ _ _ _ dX14_init_6 hP hD hS
set_option maxHeartbeats 4000000 in
set_option maxRecDepth 100000 in
theorem tJ11_init_2_X15n (l : Launch) (D : va_G) (d : Nat → ClassId) (z : ZT) (o : Nat) : CVS l yJ11_init_2 (ws_ yJ11_init_2 cJ11_init_2 5 (Option.none : Option Jvm.ClassFile.FieldType)) (rmc 1 0 0 12) D d z [.ref o, .null, .null, .int (0 : Int32), .int (0 : Int32)] ([(o, .inr (14, [.int (0 : Int32), .null, .null, .null, .null, .null, .int (0 : Int32)]))]) (fun u : UU => [(o, .inr (14, [.int (0 : Int32), .null, .null, .null, .null, .null, .int (0 : Int32)]))]) (fun _ => True) := by
  refine CVS.of (rt := .int) (own := RJ11) rfl (by decide) (Nat.le_of_ble_eq_true rfl) ?_
  intro p e s m args below meth c A Q ls S hin hK hP hD hZ hS hA hl hret0
  have hx := S.1
  have hb := S.2.1
  have hts := S.2.2.2.2
  have hl : lv_has ls 5 [(0, .ref o), (1, .null), (2, .null), (3, .int (0 : Int32)), (4, .int (0 : Int32))] := hl
  refine lv_aload_n hx hb dJ11_init_2_0 rfl (lv_at hl 0 rfl) ?_
  refine W.objInit hx hb S.2.2.2.1 (hts _ q703) (hts _ q136) (hts _ q137) rfl (by rw [S.2.2.1]; exact hl.1) rfl dJ11_init_2_1 (Nat.le_of_ble_eq_true rfl) (Nat.le_of_ble_eq_true rfl) ?_
  refine W.eq (g2 := F0 m 4 ls []) rfl ?_
  refine lv_aload_n hx hb dJ11_init_2_4 rfl (lv_at hl 0 rfl) ?_
  refine lv_aload_n hx hb dJ11_init_2_5 rfl (lv_at hl 0 rfl) ?_
  refine g_put hx hb hts S.2.2.2.1 hK hP hD hS in_X15 tyX15 tyX15_ok nmX15 0 rfl rfl 1 (by decide) q738 (fun _ h9 => h9) rfl (v := .ref o) rfl rfl rfl (Nat.le_of_ble_eq_true rfl) (w' := [(o, .inr (14, [.int (0 : Int32), .ref o, .null, .null, .null, .null, .int (0 : Int32)]))]) rfl dJ11_init_2_6 ?_
  clear hP hD hS
  intro H locs hP hD hS
  refine lv_aload_n hx hb dJ11_init_2_9 rfl (lv_at hl 0 rfl) ?_
  rcases hZ.2.1 with hsi | ⟨ts_1, hsi⟩
  · refine va_gets hx hb hsi hS S.2.2.2.1 (hts _ q704) (fun _ h9 => h9) dJ11_init_2_10 ?_
    refine g_put hx hb hts S.2.2.2.1 hK hP hD hS in_X15 tyX15 tyX15_ok nmX15 0 rfl rfl 2 (by decide) q739 (fun _ h9 => h9) rfl (v := .null) rfl rfl rfl (Nat.le_of_ble_eq_true rfl) (w' := [(o, .inr (14, [.int (0 : Int32), .ref o, .null, .null, .null, .null, .int (0 : Int32)]))]) rfl dJ11_init_2_13 ?_
    clear hP hD hS
    intro H locs hP hD hS
    refine lv_aload_n hx hb dJ11_init_2_16 rfl (lv_at hl 0 rfl) ?_
    rcases hZ.2.2.1 with hsi | ⟨ts_2, hsi⟩
    · refine va_gets hx hb hsi hS S.2.2.2.1 (hts _ q706) (fun _ h9 => h9) dJ11_init_2_17 ?_
      refine g_put hx hb hts S.2.2.2.1 hK hP hD hS in_X15 tyX15 tyX15_ok nmX15 0 rfl rfl 3 (by decide) q740 (fun _ h9 => h9) rfl (v := .null) rfl rfl rfl (Nat.le_of_ble_eq_true rfl) (w' := [(o, .inr (14, [.int (0 : Int32), .ref o, .null, .null, .null, .null, .int (0 : Int32)]))]) rfl dJ11_init_2_20 ?_
      clear hP hD hS
      intro H locs hP hD hS
      refine lv_iload hx hb dJ11_init_2_23 (lv_at hl 4 rfl) ?_
      refine lv_if_eq (tgt := 36) hx hb dJ11_init_2_25 (by decide) (fun hc => ?_) (fun hc => absurd (by decide) hc)
      clear hc
      refine lv_aload_n hx hb dJ11_init_2_36 rfl (lv_at hl 0 rfl) ?_
      refine lv_null hx hb dJ11_init_2_37 ?_
      refine g_put hx hb hts S.2.2.2.1 hK hP hD hS in_X15 tyX15 tyX15_ok nmX15 0 rfl rfl 2 (by decide) q739 (fun _ h9 => h9) rfl (v := .null) rfl rfl rfl (Nat.le_of_ble_eq_true rfl) (w' := [(o, .inr (14, [.int (0 : Int32), .ref o, .null, .null, .null, .null, .int (0 : Int32)]))]) rfl dJ11_init_2_38 ?_
      clear hP hD hS
      intro H locs hP hD hS
      refine lv_aload_n hx hb dJ11_init_2_41 rfl (lv_at hl 0 rfl) ?_
      refine lv_aload_nN hx hb dJ11_init_2_42 rfl (lv_at hl 1 rfl) ?_
      refine g_put hx hb hts S.2.2.2.1 hK hP hD hS in_X15 tyX15 tyX15_ok nmX15 0 rfl rfl 4 (by decide) q737 (fun _ h9 => h9) rfl (v := .null) rfl rfl rfl (Nat.le_of_ble_eq_true rfl) (w' := [(o, .inr (14, [.int (0 : Int32), .ref o, .null, .null, .null, .null, .int (0 : Int32)]))]) rfl dJ11_init_2_43 ?_
      clear hP hD hS
      intro H locs hP hD hS
      refine lv_aload_n hx hb dJ11_init_2_46 rfl (lv_at hl 0 rfl) ?_
      refine lv_aload_nN hx hb dJ11_init_2_47 rfl (lv_at hl 2 rfl) ?_
      refine g_put hx hb hts S.2.2.2.1 hK hP hD hS in_X15 tyX15 tyX15_ok nmX15 0 rfl rfl 1 (by decide) q738 (fun _ h9 => h9) rfl (v := .null) rfl rfl rfl (Nat.le_of_ble_eq_true rfl) (w' := [(o, .inr (14, [.int (0 : Int32), .null, .null, .null, .null, .null, .int (0 : Int32)]))]) rfl dJ11_init_2_48 ?_
      clear hP hD hS
      intro H locs hP hD hS
      refine lv_iload_n hx hb dJ11_init_2_51 rfl (lv_at hl 3 rfl) ?_
      refine lv_if_ne (tgt := 60) hx hb dJ11_init_2_52 (by decide) (fun hc => absurd hc (by decide)) (fun hc => ?_)
      clear hc
      refine lv_aload_n hx hb dJ11_init_2_55 rfl (lv_at hl 0 rfl) ?_
      refine lv_null hx hb dJ11_init_2_56 ?_
      refine g_put hx hb hts S.2.2.2.1 hK hP hD hS in_X15 tyX15 tyX15_ok nmX15 0 rfl rfl 3 (by decide) q740 (fun _ h9 => h9) rfl (v := .null) rfl rfl rfl (Nat.le_of_ble_eq_true rfl) (w' := [(o, .inr (14, [.int (0 : Int32), .null, .null, .null, .null, .null, .int (0 : Int32)]))]) rfl dJ11_init_2_57 ?_
      clear hP hD hS
      intro H locs hP hD hS
      refine W.widen (k := 0) (n := 0) (Nat.le_of_ble_eq_true rfl) (Nat.le_of_ble_eq_true rfl) ?_
      exact hret0 (fun _ => 0) trivial _ _ _ _ dJ11_init_2_60 hP hD hS
    · refine va_gets hx hb hsi hS S.2.2.2.1 (hts _ q706) (fun _ h9 => h9) dJ11_init_2_17 ?_
      refine g_put hx hb hts S.2.2.2.1 hK hP hD hS in_X15 tyX15 tyX15_ok nmX15 0 rfl rfl 3 (by decide) q740 (fun _ h9 => h9) rfl (v := .ref ts_2) rfl rfl rfl (Nat.le_of_ble_eq_true rfl) (w' := [(o, .inr (14, [.int (0 : Int32), .ref o, .null, .ref ts_2, .null, .null, .int (0 : Int32)]))]) rfl dJ11_init_2_20 ?_
      clear hP hD hS
      intro H locs hP hD hS
      refine lv_iload hx hb dJ11_init_2_23 (lv_at hl 4 rfl) ?_
      refine lv_if_eq (tgt := 36) hx hb dJ11_init_2_25 (by decide) (fun hc => ?_) (fun hc => absurd (by decide) hc)
      clear hc
      refine lv_aload_n hx hb dJ11_init_2_36 rfl (lv_at hl 0 rfl) ?_
      refine lv_null hx hb dJ11_init_2_37 ?_
      refine g_put hx hb hts S.2.2.2.1 hK hP hD hS in_X15 tyX15 tyX15_ok nmX15 0 rfl rfl 2 (by decide) q739 (fun _ h9 => h9) rfl (v := .null) rfl rfl rfl (Nat.le_of_ble_eq_true rfl) (w' := [(o, .inr (14, [.int (0 : Int32), .ref o, .null, .ref ts_2, .null, .null, .int (0 : Int32)]))]) rfl dJ11_init_2_38 ?_
      clear hP hD hS
      intro H locs hP hD hS
      refine lv_aload_n hx hb dJ11_init_2_41 rfl (lv_at hl 0 rfl) ?_
      refine lv_aload_nN hx hb dJ11_init_2_42 rfl (lv_at hl 1 rfl) ?_
      refine g_put hx hb hts S.2.2.2.1 hK hP hD hS in_X15 tyX15 tyX15_ok nmX15 0 rfl rfl 4 (by decide) q737 (fun _ h9 => h9) rfl (v := .null) rfl rfl rfl (Nat.le_of_ble_eq_true rfl) (w' := [(o, .inr (14, [.int (0 : Int32), .ref o, .null, .ref ts_2, .null, .null, .int (0 : Int32)]))]) rfl dJ11_init_2_43 ?_
      clear hP hD hS
      intro H locs hP hD hS
      refine lv_aload_n hx hb dJ11_init_2_46 rfl (lv_at hl 0 rfl) ?_
      refine lv_aload_nN hx hb dJ11_init_2_47 rfl (lv_at hl 2 rfl) ?_
      refine g_put hx hb hts S.2.2.2.1 hK hP hD hS in_X15 tyX15 tyX15_ok nmX15 0 rfl rfl 1 (by decide) q738 (fun _ h9 => h9) rfl (v := .null) rfl rfl rfl (Nat.le_of_ble_eq_true rfl) (w' := [(o, .inr (14, [.int (0 : Int32), .null, .null, .ref ts_2, .null, .null, .int (0 : Int32)]))]) rfl dJ11_init_2_48 ?_
      clear hP hD hS
      intro H locs hP hD hS
      refine lv_iload_n hx hb dJ11_init_2_51 rfl (lv_at hl 3 rfl) ?_
      refine lv_if_ne (tgt := 60) hx hb dJ11_init_2_52 (by decide) (fun hc => absurd hc (by decide)) (fun hc => ?_)
      clear hc
      refine lv_aload_n hx hb dJ11_init_2_55 rfl (lv_at hl 0 rfl) ?_
      refine lv_null hx hb dJ11_init_2_56 ?_
      refine g_put hx hb hts S.2.2.2.1 hK hP hD hS in_X15 tyX15 tyX15_ok nmX15 0 rfl rfl 3 (by decide) q740 (fun _ h9 => h9) rfl (v := .null) rfl rfl rfl (Nat.le_of_ble_eq_true rfl) (w' := [(o, .inr (14, [.int (0 : Int32), .null, .null, .null, .null, .null, .int (0 : Int32)]))]) rfl dJ11_init_2_57 ?_
      clear hP hD hS
      intro H locs hP hD hS
      refine W.widen (k := 0) (n := 0) (Nat.le_of_ble_eq_true rfl) (Nat.le_of_ble_eq_true rfl) ?_
      exact hret0 (fun _ => 0) trivial _ _ _ _ dJ11_init_2_60 hP hD hS
  · refine va_gets hx hb hsi hS S.2.2.2.1 (hts _ q704) (fun _ h9 => h9) dJ11_init_2_10 ?_
    refine g_put hx hb hts S.2.2.2.1 hK hP hD hS in_X15 tyX15 tyX15_ok nmX15 0 rfl rfl 2 (by decide) q739 (fun _ h9 => h9) rfl (v := .ref ts_1) rfl rfl rfl (Nat.le_of_ble_eq_true rfl) (w' := [(o, .inr (14, [.int (0 : Int32), .ref o, .ref ts_1, .null, .null, .null, .int (0 : Int32)]))]) rfl dJ11_init_2_13 ?_
    clear hP hD hS
    intro H locs hP hD hS
    refine lv_aload_n hx hb dJ11_init_2_16 rfl (lv_at hl 0 rfl) ?_
    rcases hZ.2.2.1 with hsi | ⟨ts_2, hsi⟩
    · refine va_gets hx hb hsi hS S.2.2.2.1 (hts _ q706) (fun _ h9 => h9) dJ11_init_2_17 ?_
      refine g_put hx hb hts S.2.2.2.1 hK hP hD hS in_X15 tyX15 tyX15_ok nmX15 0 rfl rfl 3 (by decide) q740 (fun _ h9 => h9) rfl (v := .null) rfl rfl rfl (Nat.le_of_ble_eq_true rfl) (w' := [(o, .inr (14, [.int (0 : Int32), .ref o, .ref ts_1, .null, .null, .null, .int (0 : Int32)]))]) rfl dJ11_init_2_20 ?_
      clear hP hD hS
      intro H locs hP hD hS
      refine lv_iload hx hb dJ11_init_2_23 (lv_at hl 4 rfl) ?_
      refine lv_if_eq (tgt := 36) hx hb dJ11_init_2_25 (by decide) (fun hc => ?_) (fun hc => absurd (by decide) hc)
      clear hc
      refine lv_aload_n hx hb dJ11_init_2_36 rfl (lv_at hl 0 rfl) ?_
      refine lv_null hx hb dJ11_init_2_37 ?_
      refine g_put hx hb hts S.2.2.2.1 hK hP hD hS in_X15 tyX15 tyX15_ok nmX15 0 rfl rfl 2 (by decide) q739 (fun _ h9 => h9) rfl (v := .null) rfl rfl rfl (Nat.le_of_ble_eq_true rfl) (w' := [(o, .inr (14, [.int (0 : Int32), .ref o, .null, .null, .null, .null, .int (0 : Int32)]))]) rfl dJ11_init_2_38 ?_
      clear hP hD hS
      intro H locs hP hD hS
      refine lv_aload_n hx hb dJ11_init_2_41 rfl (lv_at hl 0 rfl) ?_
      refine lv_aload_nN hx hb dJ11_init_2_42 rfl (lv_at hl 1 rfl) ?_
      refine g_put hx hb hts S.2.2.2.1 hK hP hD hS in_X15 tyX15 tyX15_ok nmX15 0 rfl rfl 4 (by decide) q737 (fun _ h9 => h9) rfl (v := .null) rfl rfl rfl (Nat.le_of_ble_eq_true rfl) (w' := [(o, .inr (14, [.int (0 : Int32), .ref o, .null, .null, .null, .null, .int (0 : Int32)]))]) rfl dJ11_init_2_43 ?_
      clear hP hD hS
      intro H locs hP hD hS
      refine lv_aload_n hx hb dJ11_init_2_46 rfl (lv_at hl 0 rfl) ?_
      refine lv_aload_nN hx hb dJ11_init_2_47 rfl (lv_at hl 2 rfl) ?_
      refine g_put hx hb hts S.2.2.2.1 hK hP hD hS in_X15 tyX15 tyX15_ok nmX15 0 rfl rfl 1 (by decide) q738 (fun _ h9 => h9) rfl (v := .null) rfl rfl rfl (Nat.le_of_ble_eq_true rfl) (w' := [(o, .inr (14, [.int (0 : Int32), .null, .null, .null, .null, .null, .int (0 : Int32)]))]) rfl dJ11_init_2_48 ?_
      clear hP hD hS
      intro H locs hP hD hS
      refine lv_iload_n hx hb dJ11_init_2_51 rfl (lv_at hl 3 rfl) ?_
      refine lv_if_ne (tgt := 60) hx hb dJ11_init_2_52 (by decide) (fun hc => absurd hc (by decide)) (fun hc => ?_)
      clear hc
      refine lv_aload_n hx hb dJ11_init_2_55 rfl (lv_at hl 0 rfl) ?_
      refine lv_null hx hb dJ11_init_2_56 ?_
      refine g_put hx hb hts S.2.2.2.1 hK hP hD hS in_X15 tyX15 tyX15_ok nmX15 0 rfl rfl 3 (by decide) q740 (fun _ h9 => h9) rfl (v := .null) rfl rfl rfl (Nat.le_of_ble_eq_true rfl) (w' := [(o, .inr (14, [.int (0 : Int32), .null, .null, .null, .null, .null, .int (0 : Int32)]))]) rfl dJ11_init_2_57 ?_
      clear hP hD hS
      intro H locs hP hD hS
      refine W.widen (k := 0) (n := 0) (Nat.le_of_ble_eq_true rfl) (Nat.le_of_ble_eq_true rfl) ?_
      exact hret0 (fun _ => 0) trivial _ _ _ _ dJ11_init_2_60 hP hD hS
    · refine va_gets hx hb hsi hS S.2.2.2.1 (hts _ q706) (fun _ h9 => h9) dJ11_init_2_17 ?_
      refine g_put hx hb hts S.2.2.2.1 hK hP hD hS in_X15 tyX15 tyX15_ok nmX15 0 rfl rfl 3 (by decide) q740 (fun _ h9 => h9) rfl (v := .ref ts_2) rfl rfl rfl (Nat.le_of_ble_eq_true rfl) (w' := [(o, .inr (14, [.int (0 : Int32), .ref o, .ref ts_1, .ref ts_2, .null, .null, .int (0 : Int32)]))]) rfl dJ11_init_2_20 ?_
      clear hP hD hS
      intro H locs hP hD hS
      refine lv_iload hx hb dJ11_init_2_23 (lv_at hl 4 rfl) ?_
      refine lv_if_eq (tgt := 36) hx hb dJ11_init_2_25 (by decide) (fun hc => ?_) (fun hc => absurd (by decide) hc)
      clear hc
      refine lv_aload_n hx hb dJ11_init_2_36 rfl (lv_at hl 0 rfl) ?_
      refine lv_null hx hb dJ11_init_2_37 ?_
      refine g_put hx hb hts S.2.2.2.1 hK hP hD hS in_X15 tyX15 tyX15_ok nmX15 0 rfl rfl 2 (by decide) q739 (fun _ h9 => h9) rfl (v := .null) rfl rfl rfl (Nat.le_of_ble_eq_true rfl) (w' := [(o, .inr (14, [.int (0 : Int32), .ref o, .null, .ref ts_2, .null, .null, .int (0 : Int32)]))]) rfl dJ11_init_2_38 ?_
      clear hP hD hS
      intro H locs hP hD hS
      refine lv_aload_n hx hb dJ11_init_2_41 rfl (lv_at hl 0 rfl) ?_
      refine lv_aload_nN hx hb dJ11_init_2_42 rfl (lv_at hl 1 rfl) ?_
      refine g_put hx hb hts S.2.2.2.1 hK hP hD hS in_X15 tyX15 tyX15_ok nmX15 0 rfl rfl 4 (by decide) q737 (fun _ h9 => h9) rfl (v := .null) rfl rfl rfl (Nat.le_of_ble_eq_true rfl) (w' := [(o, .inr (14, [.int (0 : Int32), .ref o, .null, .ref ts_2, .null, .null, .int (0 : Int32)]))]) rfl dJ11_init_2_43 ?_
      clear hP hD hS
      intro H locs hP hD hS
      refine lv_aload_n hx hb dJ11_init_2_46 rfl (lv_at hl 0 rfl) ?_
      refine lv_aload_nN hx hb dJ11_init_2_47 rfl (lv_at hl 2 rfl) ?_
      refine g_put hx hb hts S.2.2.2.1 hK hP hD hS in_X15 tyX15 tyX15_ok nmX15 0 rfl rfl 1 (by decide) q738 (fun _ h9 => h9) rfl (v := .null) rfl rfl rfl (Nat.le_of_ble_eq_true rfl) (w' := [(o, .inr (14, [.int (0 : Int32), .null, .null, .ref ts_2, .null, .null, .int (0 : Int32)]))]) rfl dJ11_init_2_48 ?_
      clear hP hD hS
      intro H locs hP hD hS
      refine lv_iload_n hx hb dJ11_init_2_51 rfl (lv_at hl 3 rfl) ?_
      refine lv_if_ne (tgt := 60) hx hb dJ11_init_2_52 (by decide) (fun hc => absurd hc (by decide)) (fun hc => ?_)
      clear hc
      refine lv_aload_n hx hb dJ11_init_2_55 rfl (lv_at hl 0 rfl) ?_
      refine lv_null hx hb dJ11_init_2_56 ?_
      refine g_put hx hb hts S.2.2.2.1 hK hP hD hS in_X15 tyX15 tyX15_ok nmX15 0 rfl rfl 3 (by decide) q740 (fun _ h9 => h9) rfl (v := .null) rfl rfl rfl (Nat.le_of_ble_eq_true rfl) (w' := [(o, .inr (14, [.int (0 : Int32), .null, .null, .null, .null, .null, .int (0 : Int32)]))]) rfl dJ11_init_2_57 ?_
      clear hP hD hS
      intro H locs hP hD hS
      refine W.widen (k := 0) (n := 0) (Nat.le_of_ble_eq_true rfl) (Nat.le_of_ble_eq_true rfl) ?_
      exact hret0 (fun _ => 0) trivial _ _ _ _ dJ11_init_2_60 hP hD hS
set_option maxHeartbeats 4000000 in
set_option maxRecDepth 100000 in
theorem tJ12_init_X15n (l : Launch) (D : va_G) (d : Nat → ClassId) (z : ZT) (o : Nat) : CVS l yJ12_init (ws_ yJ12_init cJ12_init 5 (Option.none : Option Jvm.ClassFile.FieldType)) (rmc 2 0 0 36) D d z [.ref o, .null, .null, .int (0 : Int32), .int (0 : Int32)] ([(o, .inr (14, [.int (0 : Int32), .null, .null, .null, .null, .null, .int (0 : Int32)]))]) (fun u : UU => [(o, .inr (14, [.int (0 : Int32), .null, .null, .null, .null, .null, .int (0 : Int32)]))]) (fun _ => True) := by
  refine CVS.of (rt := .int) (own := RJ12) rfl (by decide) (Nat.le_of_ble_eq_true rfl) ?_
  intro p e s m args below meth c A Q ls S hin hK hP hD hZ hS hA hl hret0
  have hx := S.1
  have hb := S.2.1
  have hts := S.2.2.2.2
  have hl : lv_has ls 5 [(0, .ref o), (1, .null), (2, .null), (3, .int (0 : Int32)), (4, .int (0 : Int32))] := hl
  refine lv_aload_n hx hb dJ12_init_0 rfl (lv_at hl 0 rfl) ?_
  refine lv_aload_nN hx hb dJ12_init_1 rfl (lv_at hl 1 rfl) ?_
  refine lv_aload_nN hx hb dJ12_init_2 rfl (lv_at hl 2 rfl) ?_
  refine lv_iload_n hx hb dJ12_init_3 rfl (lv_at hl 3 rfl) ?_
  refine lv_iload hx hb dJ12_init_4 (lv_at hl 4 rfl) ?_
  refine run_vS0 (wr := []) (w' := fun u : UU => [(o, .inr (14, [.int (0 : Int32), .null, .null, .null, .null, .null, .int (0 : Int32)]))]) (va_runI (As := [.null, .null, .int (0 : Int32), .int (0 : Int32)]) (rest := []) S (tJ11_init_2_X15n l D d z o _) (cwI 4 hts (lw_meth q731) rfl rfl rfl (hts _ q113) (hts _ q729) (hts _ q730) rfl (by decide +kernel) ⟨(Nat.le_of_ble_eq_true rfl), (Nat.le_of_ble_eq_true rfl)⟩) ⟨Pw.blind, fun U hU hW => Pw.cut (tl := []) hK (by rw [List.append_nil]; exact hP) (by rw [List.append_nil]; exact hD) hZ hS hA [0] rfl rfl hU hW⟩ rfl rfl hl.1 rfl (lv_room (Nat.le_of_ble_eq_true rfl)) dJ12_init_6 ⟨(Nat.le_of_ble_eq_true rfl), (Nat.le_of_ble_eq_true rfl)⟩) hP hD hS hA [0] [] [0] rfl rfl rfl rfl (by decide) rfl (fun _ => rfl) ?_
  clear hP hD hS
  intro u_1 _ H locs hP hD hS
  refine W.widen (k := 0) (n := 0) (Nat.le_of_ble_eq_true rfl) (Nat.le_of_ble_eq_true rfl) ?_
  exact hret0 (fun _ => 0) trivial _ _ _ _ dJ12_init_9 hP hD hS
set_option maxHeartbeats 4000000 in
set_option maxRecDepth 100000 in
theorem tX10_init_X15n (l : Launch) (D : va_G) (d : Nat → ClassId) (z : ZT) (o : Nat) (p0 : Int32) : CVS l yX10_init (ws_ yX10_init cX10_init 3 (Option.none : Option Jvm.ClassFile.FieldType)) (rmc 3 0 0 60) D d z [.ref o, .int p0, .null] ([(o, .inr (14, [.int (0 : Int32), .null, .null, .null, .null, .null, .int (0 : Int32)]))]) (fun u : UU => [(o, .inr (14, [.int p0, .null, .null, .null, .null, .null, .int (0 : Int32)]))]) (fun _ => True) := by
  refine CVS.of (rt := .int) (own := RX10) rfl (by decide) (Nat.le_of_ble_eq_true rfl) ?_
  intro p e s m args below meth c A Q ls S hin hK hP hD hZ hS hA hl hret0
  have hx := S.1
  have hb := S.2.1
  have hts := S.2.2.2.2
  have hl : lv_has ls 3 [(0, .ref o), (1, .int p0), (2, .null)] := hl
  refine lv_aload_n hx hb dX10_init_0 rfl (lv_at hl 0 rfl) ?_
  refine lv_null hx hb dX10_init_1 ?_
  refine lv_aload_nN hx hb dX10_init_2 rfl (lv_at hl 2 rfl) ?_
  refine lv_iconst (v := 0) hx hb dX10_init_3 (by decide) ?_
  refine lv_iconst (v := 0) hx hb dX10_init_4 (by decide) ?_
  refine run_vS0 (wr := []) (w' := fun u : UU => [(o, .inr (14, [.int (0 : Int32), .null, .null, .null, .null, .null, .int (0 : Int32)]))]) (va_runI (As := [.null, .null, .int (0 : Int32), .int (0 : Int32)]) (rest := []) S (tJ12_init_X15n l D d z o _) (cwI 4 hts (lw_meth q728) rfl rfl rfl (hts _ q114) (hts _ q1317) (hts _ q727) rfl (by decide +kernel) ⟨(Nat.le_of_ble_eq_true rfl), (Nat.le_of_ble_eq_true rfl)⟩) ⟨Pw.blind, fun U hU hW => Pw.cut (tl := []) hK (by rw [List.append_nil]; exact hP) (by rw [List.append_nil]; exact hD) hZ hS hA [0] rfl rfl hU hW⟩ rfl rfl hl.1 rfl (lv_room (Nat.le_of_ble_eq_true rfl)) dX10_init_5 ⟨(Nat.le_of_ble_eq_true rfl), (Nat.le_of_ble_eq_true rfl)⟩) hP hD hS hA [0] [] [0] rfl rfl rfl rfl (by decide) rfl (fun _ => rfl) ?_
  clear hP hD hS
  intro u_1 _ H locs hP hD hS
  refine lv_aload_n hx hb dX10_init_8 rfl (lv_at hl 0 rfl) ?_
  refine lv_iload_n hx hb dX10_init_9 rfl (lv_at hl 1 rfl) ?_
  refine g_putF hx hb hts S.2.2.2.1 hK hP hD hS in_X15 tyX15 tyX15_ok nmX15 0 rfl rfl 0 (by decide) q1318 (fun _ h9 => h9) rfl hin rfl (v := .int p0) rfl rfl rfl (Nat.le_of_ble_eq_true rfl) (w' := [(o, .inr (14, [.int p0, .null, .null, .null, .null, .null, .int (0 : Int32)]))]) rfl dX10_init_10 ?_
  clear hP hD hS
  intro H locs hP hD hS
  refine W.widen (k := 0) (n := 0) (Nat.le_of_ble_eq_true rfl) (Nat.le_of_ble_eq_true rfl) ?_
  exact hret0 (fun _ => 0) trivial _ _ _ _ dX10_init_13 hP hD hS
set_option maxHeartbeats 4000000 in
set_option maxRecDepth 100000 in
theorem tX15_initn (l : Launch) (D : va_G) (d : Nat → ClassId) (z : ZT) (o : Nat) (p0 : Int32) : CVS l yX15_init (ws_ yX15_init cX15_init 3 (Option.none : Option Jvm.ClassFile.FieldType)) (rmc 4 0 0 82) D d z [.ref o, .int p0, .null] ([(o, .inr (14, [.int (0 : Int32), .null, .null, .null, .null, .null, .int (0 : Int32)]))]) (fun u : UU => [(o, .inr (14, [.int p0, .null, .null, .null, .null, .null, .int (0 : Int32)]))]) (fun _ => True) := by
  refine CVS.of (rt := .int) (own := RX15) rfl (by decide) (Nat.le_of_ble_eq_true rfl) ?_
  intro p e s m args below meth c A Q ls S hin hK hP hD hZ hS hA hl hret0
  have hx := S.1
  have hb := S.2.1
  have hts := S.2.2.2.2
  have hl : lv_has ls 3 [(0, .ref o), (1, .int p0), (2, .null)] := hl
  refine lv_aload_n hx hb dX15_init_0 rfl (lv_at hl 0 rfl) ?_
  refine lv_iload_n hx hb dX15_init_1 rfl (lv_at hl 1 rfl) ?_
  refine lv_aload_nN hx hb dX15_init_2 rfl (lv_at hl 2 rfl) ?_
  refine run_vS0 (wr := []) (w' := fun u : UU => [(o, .inr (14, [.int p0, .null, .null, .null, .null, .null, .int (0 : Int32)]))]) (va_runI (As := [.int p0, .null]) (rest := []) S (tX10_init_X15n l D d z o p0 _) (cwI 2 hts (lw_meth q1316) rfl rfl rfl (hts _ q122) (hts _ q1433) (hts _ q1315) rfl (by decide +kernel) ⟨(Nat.le_of_ble_eq_true rfl), (Nat.le_of_ble_eq_true rfl)⟩) ⟨Pw.blind, fun U hU hW => Pw.cut (tl := []) hK (by rw [List.append_nil]; exact hP) (by rw [List.append_nil]; exact hD) hZ hS hA [0] rfl rfl hU hW⟩ rfl rfl hl.1 rfl (lv_room (Nat.le_of_ble_eq_true rfl)) dX15_init_3 ⟨(Nat.le_of_ble_eq_true rfl), (Nat.le_of_ble_eq_true rfl)⟩) hP hD hS hA [0] [] [0] rfl rfl rfl rfl (by decide) rfl (fun _ => rfl) ?_
  clear hP hD hS
  intro u_1 _ H locs hP hD hS
  refine W.widen (k := 0) (n := 0) (Nat.le_of_ble_eq_true rfl) (Nat.le_of_ble_eq_true rfl) ?_
  exact hret0 (fun _ => 0) trivial _ _ _ _ dX15_init_6 hP hD hS
set_option maxHeartbeats 4000000 in
set_option maxRecDepth 100000 in
theorem tJ11_init_2_X15r (l : Launch) (D : va_G) (d : Nat → ClassId) (z : ZT) (o : Nat) (o1 : Nat) : CVS l yJ11_init_2 (ws_ yJ11_init_2 cJ11_init_2 5 (Option.none : Option Jvm.ClassFile.FieldType)) (rmc 1 0 0 12) D d z [.ref o, .null, .ref o1, .int (0 : Int32), .int (0 : Int32)] ([(o, .inr (14, [.int (0 : Int32), .null, .null, .null, .null, .null, .int (0 : Int32)]))]) (fun u : UU => [(o, .inr (14, [.int (0 : Int32), .ref o1, .null, .null, .null, .null, .int (0 : Int32)]))]) (fun _ => True) := by
  refine CVS.of (rt := .int) (own := RJ11) rfl (by decide) (Nat.le_of_ble_eq_true rfl) ?_
  intro p e s m args below meth c A Q ls S hin hK hP hD hZ hS hA hl hret0
  have hx := S.1
  have hb := S.2.1
  have hts := S.2.2.2.2
  have hl : lv_has ls 5 [(0, .ref o), (1, .null), (2, .ref o1), (3, .int (0 : Int32)), (4, .int (0 : Int32))] := hl
  refine lv_aload_n hx hb dJ11_init_2_0 rfl (lv_at hl 0 rfl) ?_
  refine W.objInit hx hb S.2.2.2.1 (hts _ q703) (hts _ q136) (hts _ q137) rfl (by rw [S.2.2.1]; exact hl.1) rfl dJ11_init_2_1 (Nat.le_of_ble_eq_true rfl) (Nat.le_of_ble_eq_true rfl) ?_
  refine W.eq (g2 := F0 m 4 ls []) rfl ?_
  refine lv_aload_n hx hb dJ11_init_2_4 rfl (lv_at hl 0 rfl) ?_
  refine lv_aload_n hx hb dJ11_init_2_5 rfl (lv_at hl 0 rfl) ?_
  refine g_put hx hb hts S.2.2.2.1 hK hP hD hS in_X15 tyX15 tyX15_ok nmX15 0 rfl rfl 1 (by decide) q738 (fun _ h9 => h9) rfl (v := .ref o) rfl rfl rfl (Nat.le_of_ble_eq_true rfl) (w' := [(o, .inr (14, [.int (0 : Int32), .ref o, .null, .null, .null, .null, .int (0 : Int32)]))]) rfl dJ11_init_2_6 ?_
  clear hP hD hS
  intro H locs hP hD hS
  refine lv_aload_n hx hb dJ11_init_2_9 rfl (lv_at hl 0 rfl) ?_
  rcases hZ.2.1 with hsi | ⟨ts_1, hsi⟩
  · refine va_gets hx hb hsi hS S.2.2.2.1 (hts _ q704) (fun _ h9 => h9) dJ11_init_2_10 ?_
    refine g_put hx hb hts S.2.2.2.1 hK hP hD hS in_X15 tyX15 tyX15_ok nmX15 0 rfl rfl 2 (by decide) q739 (fun _ h9 => h9) rfl (v := .null) rfl rfl rfl (Nat.le_of_ble_eq_true rfl) (w' := [(o, .inr (14, [.int (0 : Int32), .ref o, .null, .null, .null, .null, .int (0 : Int32)]))]) rfl dJ11_init_2_13 ?_
    clear hP hD hS
    intro H locs hP hD hS
    refine lv_aload_n hx hb dJ11_init_2_16 rfl (lv_at hl 0 rfl) ?_
    rcases hZ.2.2.1 with hsi | ⟨ts_2, hsi⟩
    · refine va_gets hx hb hsi hS S.2.2.2.1 (hts _ q706) (fun _ h9 => h9) dJ11_init_2_17 ?_
      refine g_put hx hb hts S.2.2.2.1 hK hP hD hS in_X15 tyX15 tyX15_ok nmX15 0 rfl rfl 3 (by decide) q740 (fun _ h9 => h9) rfl (v := .null) rfl rfl rfl (Nat.le_of_ble_eq_true rfl) (w' := [(o, .inr (14, [.int (0 : Int32), .ref o, .null, .null, .null, .null, .int (0 : Int32)]))]) rfl dJ11_init_2_20 ?_
      clear hP hD hS
      intro H locs hP hD hS
      refine lv_iload hx hb dJ11_init_2_23 (lv_at hl 4 rfl) ?_
      refine lv_if_eq (tgt := 36) hx hb dJ11_init_2_25 (by decide) (fun hc => ?_) (fun hc => absurd (by decide) hc)
      clear hc
      refine lv_aload_n hx hb dJ11_init_2_36 rfl (lv_at hl 0 rfl) ?_
      refine lv_null hx hb dJ11_init_2_37 ?_
      refine g_put hx hb hts S.2.2.2.1 hK hP hD hS in_X15 tyX15 tyX15_ok nmX15 0 rfl rfl 2 (by decide) q739 (fun _ h9 => h9) rfl (v := .null) rfl rfl rfl (Nat.le_of_ble_eq_true rfl) (w' := [(o, .inr (14, [.int (0 : Int32), .ref o, .null, .null, .null, .null, .int (0 : Int32)]))]) rfl dJ11_init_2_38 ?_
      clear hP hD hS
      intro H locs hP hD hS
      refine lv_aload_n hx hb dJ11_init_2_41 rfl (lv_at hl 0 rfl) ?_
      refine lv_aload_nN hx hb dJ11_init_2_42 rfl (lv_at hl 1 rfl) ?_
      refine g_put hx hb hts S.2.2.2.1 hK hP hD hS in_X15 tyX15 tyX15_ok nmX15 0 rfl rfl 4 (by decide) q737 (fun _ h9 => h9) rfl (v := .null) rfl rfl rfl (Nat.le_of_ble_eq_true rfl) (w' := [(o, .inr (14, [.int (0 : Int32), .ref o, .null, .null, .null, .null, .int (0 : Int32)]))]) rfl dJ11_init_2_43 ?_
      clear hP hD hS
      intro H locs hP hD hS
      refine lv_aload_n hx hb dJ11_init_2_46 rfl (lv_at hl 0 rfl) ?_
      refine lv_aload_n hx hb dJ11_init_2_47 rfl (lv_at hl 2 rfl) ?_
      refine g_put hx hb hts S.2.2.2.1 hK hP hD hS in_X15 tyX15 tyX15_ok nmX15 0 rfl rfl 1 (by decide) q738 (fun _ h9 => h9) rfl (v := .ref o1) rfl rfl rfl (Nat.le_of_ble_eq_true rfl) (w' := [(o, .inr (14, [.int (0 : Int32), .ref o1, .null, .null, .null, .null, .int (0 : Int32)]))]) rfl dJ11_init_2_48 ?_
      clear hP hD hS
      intro H locs hP hD hS
      refine lv_iload_n hx hb dJ11_init_2_51 rfl (lv_at hl 3 rfl) ?_
      refine lv_if_ne (tgt := 60) hx hb dJ11_init_2_52 (by decide) (fun hc => absurd hc (by decide)) (fun hc => ?_)
      clear hc
      refine lv_aload_n hx hb dJ11_init_2_55 rfl (lv_at hl 0 rfl) ?_
      refine lv_null hx hb dJ11_init_2_56 ?_
      refine g_put hx hb hts S.2.2.2.1 hK hP hD hS in_X15 tyX15 tyX15_ok nmX15 0 rfl rfl 3 (by decide) q740 (fun _ h9 => h9) rfl (v := .null) rfl rfl rfl (Nat.le_of_ble_eq_true rfl) (w' := [(o, .inr (14, [.int (0 : Int32), .ref o1, .null, .null, .null, .null, .int (0 : Int32)]))]) rfl dJ11_init_2_57 ?_
      clear hP hD hS
      intro H locs hP hD hS
      refine W.widen (k := 0) (n := 0) (Nat.le_of_ble_eq_true rfl) (Nat.le_of_ble_eq_true rfl) ?_
      exact hret0 (fun _ => 0) trivial _ _ _ _ dJ11_init_2_60 hP hD hS
    · refine va_gets hx hb hsi hS S.2.2.2.1 (hts _ q706) (fun _ h9 => h9) dJ11_init_2_17 ?_
      refine g_put hx hb hts S.2.2.2.1 hK hP hD hS in_X15 tyX15 tyX15_ok nmX15 0 rfl rfl 3 (by decide) q740 (fun _ h9 => h9) rfl (v := .ref ts_2) rfl rfl rfl (Nat.le_of_ble_eq_true rfl) (w' := [(o, .inr (14, [.int (0 : Int32), .ref o, .null, .ref ts_2, .null, .null, .int (0 : Int32)]))]) rfl dJ11_init_2_20 ?_
      clear hP hD hS
      intro H locs hP hD hS
      refine lv_iload hx hb dJ11_init_2_23 (lv_at hl 4 rfl) ?_
      refine lv_if_eq (tgt := 36) hx hb dJ11_init_2_25 (by decide) (fun hc => ?_) (fun hc => absurd (by decide) hc)
      clear hc
      refine lv_aload_n hx hb dJ11_init_2_36 rfl (lv_at hl 0 rfl) ?_
      refine lv_null hx hb dJ11_init_2_37 ?_
      refine g_put hx hb hts S.2.2.2.1 hK hP hD hS in_X15 tyX15 tyX15_ok nmX15 0 rfl rfl 2 (by decide) q739 (fun _ h9 => h9) rfl (v := .null) rfl rfl rfl (Nat.le_of_ble_eq_true rfl) (w' := [(o, .inr (14, [.int (0 : Int32), .ref o, .null, .ref ts_2, .null, .null, .int (0 : Int32)]))]) rfl dJ11_init_2_38 ?_
      clear hP hD hS
      intro H locs hP hD hS
      refine lv_aload_n hx hb dJ11_init_2_41 rfl (lv_at hl 0 rfl) ?_
      refine lv_aload_nN hx hb dJ11_init_2_42 rfl (lv_at hl 1 rfl) ?_
      refine g_put hx hb hts S.2.2.2.1 hK hP hD hS in_X15 tyX15 tyX15_ok nmX15 0 rfl rfl 4 (by decide) q737 (fun _ h9 => h9) rfl (v := .null) rfl rfl rfl (Nat.le_of_ble_eq_true rfl) (w' := [(o, .inr (14, [.int (0 : Int32), .ref o, .null, .ref ts_2, .null, .null, .int (0 : Int32)]))]) rfl dJ11_init_2_43 ?_
      clear hP hD hS
      intro H locs hP hD hS
      refine lv_aload_n hx hb dJ11_init_2_46 rfl (lv_at hl 0 rfl) ?_
      refine lv_aload_n hx hb dJ11_init_2_47 rfl (lv_at hl 2 rfl) ?_
      refine g_put hx hb hts S.2.2.2.1 hK hP hD hS in_X15 tyX15 tyX15_ok nmX15 0 rfl rfl 1 (by decide) q738 (fun _ h9 => h9) rfl (v := .ref o1) rfl rfl rfl (Nat.le_of_ble_eq_true rfl) (w' := [(o, .inr (14, [.int (0 : Int32), .ref o1, .null, .ref ts_2, .null, .null, .int (0 : Int32)]))]) rfl dJ11_init_2_48 ?_
      clear hP hD hS
      intro H locs hP hD hS
      refine lv_iload_n hx hb dJ11_init_2_51 rfl (lv_at hl 3 rfl) ?_
      refine lv_if_ne (tgt := 60) hx hb dJ11_init_2_52 (by decide) (fun hc => absurd hc (by decide)) (fun hc => ?_)
      clear hc
      refine lv_aload_n hx hb dJ11_init_2_55 rfl (lv_at hl 0 rfl) ?_
      refine lv_null hx hb dJ11_init_2_56 ?_
      refine g_put hx hb hts S.2.2.2.1 hK hP hD hS in_X15 tyX15 tyX15_ok nmX15 0 rfl rfl 3 (by decide) q740 (fun _ h9 => h9) rfl (v := .null) rfl rfl rfl (Nat.le_of_ble_eq_true rfl) (w' := [(o, .inr (14, [.int (0 : Int32), .ref o1, .null, .null, .null, .null, .int (0 : Int32)]))]) rfl dJ11_init_2_57 ?_
      clear hP hD hS
      intro H locs hP hD hS
      refine W.widen (k := 0) (n := 0) (Nat.le_of_ble_eq_true rfl) (Nat.le_of_ble_eq_true rfl) ?_
      exact hret0 (fun _ => 0) trivial _ _ _ _ dJ11_init_2_60 hP hD hS
  · refine va_gets hx hb hsi hS S.2.2.2.1 (hts _ q704) (fun _ h9 => h9) dJ11_init_2_10 ?_
    refine g_put hx hb hts S.2.2.2.1 hK hP hD hS in_X15 tyX15 tyX15_ok nmX15 0 rfl rfl 2 (by decide) q739 (fun _ h9 => h9) rfl (v := .ref ts_1) rfl rfl rfl (Nat.le_of_ble_eq_true rfl) (w' := [(o, .inr (14, [.int (0 : Int32), .ref o, .ref ts_1, .null, .null, .null, .int (0 : Int32)]))]) rfl dJ11_init_2_13 ?_
    clear hP hD hS
    intro H locs hP hD hS
    refine lv_aload_n hx hb dJ11_init_2_16 rfl (lv_at hl 0 rfl) ?_
    rcases hZ.2.2.1 with hsi | ⟨ts_2, hsi⟩
    · refine va_gets hx hb hsi hS S.2.2.2.1 (hts _ q706) (fun _ h9 => h9) dJ11_init_2_17 ?_
      refine g_put hx hb hts S.2.2.2.1 hK hP hD hS in_X15 tyX15 tyX15_ok nmX15 0 rfl rfl 3 (by decide) q740 (fun _ h9 => h9) rfl (v := .null) rfl rfl rfl (Nat.le_of_ble_eq_true rfl) (w' := [(o, .inr (14, [.int (0 : Int32), .ref o, .ref ts_1, .null, .null, .null, .int (0 : Int32)]))]) rfl dJ11_init_2_20 ?_
      clear hP hD hS
      intro H locs hP hD hS
      refine lv_iload hx hb dJ11_init_2_23 (lv_at hl 4 rfl) ?_
      refine lv_if_eq (tgt := 36) hx hb dJ11_init_2_25 (by decide) (fun hc => ?_) (fun hc => absurd (by decide) hc)
      clear hc
      refine lv_aload_n hx hb dJ11_init_2_36 rfl (lv_at hl 0 rfl) ?_
      refine lv_null hx hb dJ11_init_2_37 ?_
      refine g_put hx hb hts S.2.2.2.1 hK hP hD hS in_X15 tyX15 tyX15_ok nmX15 0 rfl rfl 2 (by decide) q739 (fun _ h9 => h9) rfl (v := .null) rfl rfl rfl (Nat.le_of_ble_eq_true rfl) (w' := [(o, .inr (14, [.int (0 : Int32), .ref o, .null, .null, .null, .null, .int (0 : Int32)]))]) rfl dJ11_init_2_38 ?_
      clear hP hD hS
      intro H locs hP hD hS
      refine lv_aload_n hx hb dJ11_init_2_41 rfl (lv_at hl 0 rfl) ?_
      refine lv_aload_nN hx hb dJ11_init_2_42 rfl (lv_at hl 1 rfl) ?_
      refine g_put hx hb hts S.2.2.2.1 hK hP hD hS in_X15 tyX15 tyX15_ok nmX15 0 rfl rfl 4 (by decide) q737 (fun _ h9 => h9) rfl (v := .null) rfl rfl rfl (Nat.le_of_ble_eq_true rfl) (w' := [(o, .inr (14, [.int (0 : Int32), .ref o, .null, .null, .null, .null, .int (0 : Int32)]))]) rfl dJ11_init_2_43 ?_
      clear hP hD hS
      intro H locs hP hD hS
      refine lv_aload_n hx hb dJ11_init_2_46 rfl (lv_at hl 0 rfl) ?_
      refine lv_aload_n hx hb dJ11_init_2_47 rfl (lv_at hl 2 rfl) ?_
      refine g_put hx hb hts S.2.2.2.1 hK hP hD hS in_X15 tyX15 tyX15_ok nmX15 0 rfl rfl 1 (by decide) q738 (fun _ h9 => h9) rfl (v := .ref o1) rfl rfl rfl (Nat.le_of_ble_eq_true rfl) (w' := [(o, .inr (14, [.int (0 : Int32), .ref o1, .null, .null, .null, .null, .int (0 : Int32)]))]) rfl dJ11_init_2_48 ?_
      clear hP hD hS
      intro H locs hP hD hS
      refine lv_iload_n hx hb dJ11_init_2_51 rfl (lv_at hl 3 rfl) ?_
      refine lv_if_ne (tgt := 60) hx hb dJ11_init_2_52 (by decide) (fun hc => absurd hc (by decide)) (fun hc => ?_)
      clear hc
      refine lv_aload_n hx hb dJ11_init_2_55 rfl (lv_at hl 0 rfl) ?_
      refine lv_null hx hb dJ11_init_2_56 ?_
      refine g_put hx hb hts S.2.2.2.1 hK hP hD hS in_X15 tyX15 tyX15_ok nmX15 0 rfl rfl 3 (by decide) q740 (fun _ h9 => h9) rfl (v := .null) rfl rfl rfl (Nat.le_of_ble_eq_true rfl) (w' := [(o, .inr (14, [.int (0 : Int32), .ref o1, .null, .null, .null, .null, .int (0 : Int32)]))]) rfl dJ11_init_2_57 ?_
      clear hP hD hS
      intro H locs hP hD hS
      refine W.widen (k := 0) (n := 0) (Nat.le_of_ble_eq_true rfl) (Nat.le_of_ble_eq_true rfl) ?_
      exact hret0 (fun _ => 0) trivial _ _ _ _ dJ11_init_2_60 hP hD hS
    · refine va_gets hx hb hsi hS S.2.2.2.1 (hts _ q706) (fun _ h9 => h9) dJ11_init_2_17 ?_
      refine g_put hx hb hts S.2.2.2.1 hK hP hD hS in_X15 tyX15 tyX15_ok nmX15 0 rfl rfl 3 (by decide) q740 (fun _ h9 => h9) rfl (v := .ref ts_2) rfl rfl rfl (Nat.le_of_ble_eq_true rfl) (w' := [(o, .inr (14, [.int (0 : Int32), .ref o, .ref ts_1, .ref ts_2, .null, .null, .int (0 : Int32)]))]) rfl dJ11_init_2_20 ?_
      clear hP hD hS
      intro H locs hP hD hS
      refine lv_iload hx hb dJ11_init_2_23 (lv_at hl 4 rfl) ?_
      refine lv_if_eq (tgt := 36) hx hb dJ11_init_2_25 (by decide) (fun hc => ?_) (fun hc => absurd (by decide) hc)
      clear hc
      refine lv_aload_n hx hb dJ11_init_2_36 rfl (lv_at hl 0 rfl) ?_
      refine lv_null hx hb dJ11_init_2_37 ?_
      refine g_put hx hb hts S.2.2.2.1 hK hP hD hS in_X15 tyX15 tyX15_ok nmX15 0 rfl rfl 2 (by decide) q739 (fun _ h9 => h9) rfl (v := .null) rfl rfl rfl (Nat.le_of_ble_eq_true rfl) (w' := [(o, .inr (14, [.int (0 : Int32), .ref o, .null, .ref ts_2, .null, .null, .int (0 : Int32)]))]) rfl dJ11_init_2_38 ?_
      clear hP hD hS
      intro H locs hP hD hS
      refine lv_aload_n hx hb dJ11_init_2_41 rfl (lv_at hl 0 rfl) ?_
      refine lv_aload_nN hx hb dJ11_init_2_42 rfl (lv_at hl 1 rfl) ?_
      refine g_put hx hb hts S.2.2.2.1 hK hP hD hS in_X15 tyX15 tyX15_ok nmX15 0 rfl rfl 4 (by decide) q737 (fun _ h9 => h9) rfl (v := .null) rfl rfl rfl (Nat.le_of_ble_eq_true rfl) (w' := [(o, .inr (14, [.int (0 : Int32), .ref o, .null, .ref ts_2, .null, .null, .int (0 : Int32)]))]) rfl dJ11_init_2_43 ?_
      clear hP hD hS
      intro H locs hP hD hS
      refine lv_aload_n hx hb dJ11_init_2_46 rfl (lv_at hl 0 rfl) ?_
      refine lv_aload_n hx hb dJ11_init_2_47 rfl (lv_at hl 2 rfl) ?_
      refine g_put hx hb hts S.2.2.2.1 hK hP hD hS in_X15 tyX15 tyX15_ok nmX15 0 rfl rfl 1 (by decide) q738 (fun _ h9 => h9) rfl (v := .ref o1) rfl rfl rfl (Nat.le_of_ble_eq_true rfl) (w' := [(o, .inr (14, [.int (0 : Int32), .ref o1, .null, .ref ts_2, .null, .null, .int (0 : Int32)]))]) rfl dJ11_init_2_48 ?_
      clear hP hD hS
      intro H locs hP hD hS
      refine lv_iload_n hx hb dJ11_init_2_51 rfl (lv_at hl 3 rfl) ?_
      refine lv_if_ne (tgt := 60) hx hb dJ11_init_2_52 (by decide) (fun hc => absurd hc (by decide)) (fun hc => ?_)
      clear hc
      refine lv_aload_n hx hb dJ11_init_2_55 rfl (lv_at hl 0 rfl) ?_
      refine lv_null hx hb dJ11_init_2_56 ?_
      refine g_put hx hb hts S.2.2.2.1 hK hP hD hS in_X15 tyX15 tyX15_ok nmX15 0 rfl rfl 3 (by decide) q740 (fun _ h9 => h9) rfl (v := .null) rfl rfl rfl (Nat.le_of_ble_eq_true rfl) (w' := [(o, .inr (14, [.int (0 : Int32), .ref o1, .null, .null, .null, .null, .int (0 : Int32)]))]) rfl dJ11_init_2_57 ?_
      clear hP hD hS
      intro H locs hP hD hS
      refine W.widen (k := 0) (n := 0) (Nat.le_of_ble_eq_true rfl) (Nat.le_of_ble_eq_true rfl) ?_
      exact hret0 (fun _ => 0) trivial _ _ _ _ dJ11_init_2_60 hP hD hS
set_option maxHeartbeats 4000000 in
set_option maxRecDepth 100000 in
theorem tJ12_init_X15r (l : Launch) (D : va_G) (d : Nat → ClassId) (z : ZT) (o : Nat) (o1 : Nat) : CVS l yJ12_init (ws_ yJ12_init cJ12_init 5 (Option.none : Option Jvm.ClassFile.FieldType)) (rmc 2 0 0 36) D d z [.ref o, .null, .ref o1, .int (0 : Int32), .int (0 : Int32)] ([(o, .inr (14, [.int (0 : Int32), .null, .null, .null, .null, .null, .int (0 : Int32)]))]) (fun u : UU => [(o, .inr (14, [.int (0 : Int32), .ref o1, .null, .null, .null, .null, .int (0 : Int32)]))]) (fun _ => True) := by
  refine CVS.of (rt := .int) (own := RJ12) rfl (by decide) (Nat.le_of_ble_eq_true rfl) ?_
  intro p e s m args below meth c A Q ls S hin hK hP hD hZ hS hA hl hret0
  have hx := S.1
  have hb := S.2.1
  have hts := S.2.2.2.2
  have hl : lv_has ls 5 [(0, .ref o), (1, .null), (2, .ref o1), (3, .int (0 : Int32)), (4, .int (0 : Int32))] := hl
  refine lv_aload_n hx hb dJ12_init_0 rfl (lv_at hl 0 rfl) ?_
  refine lv_aload_nN hx hb dJ12_init_1 rfl (lv_at hl 1 rfl) ?_
  refine lv_aload_n hx hb dJ12_init_2 rfl (lv_at hl 2 rfl) ?_
  refine lv_iload_n hx hb dJ12_init_3 rfl (lv_at hl 3 rfl) ?_
  refine lv_iload hx hb dJ12_init_4 (lv_at hl 4 rfl) ?_
  refine run_vS0 (wr := []) (w' := fun u : UU => [(o, .inr (14, [.int (0 : Int32), .ref o1, .null, .null, .null, .null, .int (0 : Int32)]))]) (va_runI (As := [.null, .ref o1, .int (0 : Int32), .int (0 : Int32)]) (rest := []) S (tJ11_init_2_X15r l D d z o o1 _) (cwI 4 hts (lw_meth q731) rfl rfl rfl (hts _ q113) (hts _ q729) (hts _ q730) rfl (by decide +kernel) ⟨(Nat.le_of_ble_eq_true rfl), (Nat.le_of_ble_eq_true rfl)⟩) ⟨Pw.blind, fun U hU hW => Pw.cut (tl := []) hK (by rw [List.append_nil]; exact hP) (by rw [List.append_nil]; exact hD) hZ hS hA [0] rfl rfl hU hW⟩ rfl rfl hl.1 rfl (lv_room (Nat.le_of_ble_eq_true rfl)) dJ12_init_6 ⟨(Nat.le_of_ble_eq_true rfl), (Nat.le_of_ble_eq_true rfl)⟩) hP hD hS hA [0] [] [0] rfl rfl rfl rfl (by decide) rfl (fun _ => rfl) ?_
  clear hP hD hS
  intro u_1 _ H locs hP hD hS
  refine W.widen (k := 0) (n := 0) (Nat.le_of_ble_eq_true rfl) (Nat.le_of_ble_eq_true rfl) ?_
  exact hret0 (fun _ => 0) trivial _ _ _ _ dJ12_init_9 hP hD hS
set_option maxHeartbeats 4000000 in
set_option maxRecDepth 100000 in
theorem tX10_init_X15r (l : Launch) (D : va_G) (d : Nat → ClassId) (z : ZT) (o : Nat) (p0 : Int32) (o1 : Nat) : CVS l yX10_init (ws_ yX10_init cX10_init 3 (Option.none : Option Jvm.ClassFile.FieldType)) (rmc 3 0 0 60) D d z [.ref o, .int p0, .ref o1] ([(o, .inr (14, [.int (0 : Int32), .null, .null, .null, .null, .null, .int (0 : Int32)]))]) (fun u : UU => [(o, .inr (14, [.int p0, .ref o1, .null, .null, .null, .null, .int (0 : Int32)]))]) (fun _ => True) := by
  refine CVS.of (rt := .int) (own := RX10) rfl (by decide) (Nat.le_of_ble_eq_true rfl) ?_
  intro p e s m args below meth c A Q ls S hin hK hP hD hZ hS hA hl hret0
  have hx := S.1
  have hb := S.2.1
  have hts := S.2.2.2.2
  have hl : lv_has ls 3 [(0, .ref o), (1, .int p0), (2, .ref o1)] := hl
  refine lv_aload_n hx hb dX10_init_0 rfl (lv_at hl 0 rfl) ?_
  refine lv_null hx hb dX10_init_1 ?_
  refine lv_aload_n hx hb dX10_init_2 rfl (lv_at hl 2 rfl) ?_
  refine lv_iconst (v := 0) hx hb dX10_init_3 (by decide) ?_
  refine lv_iconst (v := 0) hx hb dX10_init_4 (by decide) ?_
  refine run_vS0 (wr := []) (w' := fun u : UU => [(o, .inr (14, [.int (0 : Int32), .ref o1, .null, .null, .null, .null, .int (0 : Int32)]))]) (va_runI (As := [.null, .ref o1, .int (0 : Int32), .int (0 : Int32)]) (rest := []) S (tJ12_init_X15r l D d z o o1 _) (cwI 4 hts (lw_meth q728) rfl rfl rfl (hts _ q114) (hts _ q1317) (hts _ q727) rfl (by decide +kernel) ⟨(Nat.le_of_ble_eq_true rfl), (Nat.le_of_ble_eq_true rfl)⟩) ⟨Pw.blind, fun U hU hW => Pw.cut (tl := []) hK (by rw [List.append_nil]; exact hP) (by rw [List.append_nil]; exact hD) hZ hS hA [0] rfl rfl hU hW⟩ rfl rfl hl.1 rfl (lv_room (Nat.le_of_ble_eq_true rfl)) dX10_init_5 ⟨(Nat.le_of_ble_eq_true rfl), (Nat.le_of_ble_eq_true rfl)⟩) hP hD hS hA [0] [] [0] rfl rfl rfl rfl (by decide) rfl (fun _ => rfl) ?_
  clear hP hD hS
  intro u_1 _ H locs hP hD hS
  refine lv_aload_n hx hb dX10_init_8 rfl (lv_at hl 0 rfl) ?_
  refine lv_iload_n hx hb dX10_init_9 rfl (lv_at hl 1 rfl) ?_
  refine g_putF hx hb hts S.2.2.2.1 hK hP hD hS in_X15 tyX15 tyX15_ok nmX15 0 rfl rfl 0 (by decide) q1318 (fun _ h9 => h9) rfl hin rfl (v := .int p0) rfl rfl rfl (Nat.le_of_ble_eq_true rfl) (w' := [(o, .inr (14, [.int p0, .ref o1, .null, .null, .null, .null, .int (0 : Int32)]))]) rfl dX10_init_10 ?_
  clear hP hD hS
  intro H locs hP hD hS
  refine W.widen (k := 0) (n := 0) (Nat.le_of_ble_eq_true rfl) (Nat.le_of_ble_eq_true rfl) ?_
  exact hret0 (fun _ => 0) trivial _ _ _ _ dX10_init_13 hP hD hS
set_option maxHeartbeats 4000000 in
set_option maxRecDepth 100000 in
theorem tX15_initr (l : Launch) (D : va_G) (d : Nat → ClassId) (z : ZT) (o : Nat) (p0 : Int32) (o1 : Nat) : CVS l yX15_init (ws_ yX15_init cX15_init 3 (Option.none : Option Jvm.ClassFile.FieldType)) (rmc 4 0 0 82) D d z [.ref o, .int p0, .ref o1] ([(o, .inr (14, [.int (0 : Int32), .null, .null, .null, .null, .null, .int (0 : Int32)]))]) (fun u : UU => [(o, .inr (14, [.int p0, .ref o1, .null, .null, .null, .null, .int (0 : Int32)]))]) (fun _ => True) := by
  refine CVS.of (rt := .int) (own := RX15) rfl (by decide) (Nat.le_of_ble_eq_true rfl) ?_
  intro p e s m args below meth c A Q ls S hin hK hP hD hZ hS hA hl hret0
  have hx := S.1
  have hb := S.2.1
  have hts := S.2.2.2.2
  have hl : lv_has ls 3 [(0, .ref o), (1, .int p0), (2, .ref o1)] := hl
  refine lv_aload_n hx hb dX15_init_0 rfl (lv_at hl 0 rfl) ?_
  refine lv_iload_n hx hb dX15_init_1 rfl (lv_at hl 1 rfl) ?_
  refine lv_aload_n hx hb dX15_init_2 rfl (lv_at hl 2 rfl) ?_
  refine run_vS0 (wr := []) (w' := fun u : UU => [(o, .inr (14, [.int p0, .ref o1, .null, .null, .null, .null, .int (0 : Int32)]))]) (va_runI (As := [.int p0, .ref o1]) (rest := []) S (tX10_init_X15r l D d z o p0 o1 _) (cwI 2 hts (lw_meth q1316) rfl rfl rfl (hts _ q122) (hts _ q1433) (hts _ q1315) rfl (by decide +kernel) ⟨(Nat.le_of_ble_eq_true rfl), (Nat.le_of_ble_eq_true rfl)⟩) ⟨Pw.blind, fun U hU hW => Pw.cut (tl := []) hK (by rw [List.append_nil]; exact hP) (by rw [List.append_nil]; exact hD) hZ hS hA [0] rfl rfl hU hW⟩ rfl rfl hl.1 rfl (lv_room (Nat.le_of_ble_eq_true rfl)) dX15_init_3 ⟨(Nat.le_of_ble_eq_true rfl), (Nat.le_of_ble_eq_true rfl)⟩) hP hD hS hA [0] [] [0] rfl rfl rfl rfl (by decide) rfl (fun _ => rfl) ?_
  clear hP hD hS
  intro u_1 _ H locs hP hD hS
  refine W.widen (k := 0) (n := 0) (Nat.le_of_ble_eq_true rfl) (Nat.le_of_ble_eq_true rfl) ?_
  exact hret0 (fun _ => 0) trivial _ _ _ _ dX15_init_6 hP hD hS
set_option maxHeartbeats 4000000 in
set_option maxRecDepth 100000 in
theorem tJ11_init_2_X16n (l : Launch) (D : va_G) (d : Nat → ClassId) (z : ZT) (o : Nat) : CVS l yJ11_init_2 (ws_ yJ11_init_2 cJ11_init_2 5 (Option.none : Option Jvm.ClassFile.FieldType)) (rmc 1 0 0 12) D d z [.ref o, .null, .null, .int (0 : Int32), .int (0 : Int32)] ([(o, .inr (15, [.int (0 : Int32), .null, .null, .null, .null, .null, .int (0 : Int32)]))]) (fun u : UU => [(o, .inr (15, [.int (0 : Int32), .null, .null, .null, .null, .null, .int (0 : Int32)]))]) (fun _ => True) := by
  refine CVS.of (rt := .int) (own := RJ11) rfl (by decide) (Nat.le_of_ble_eq_true rfl) ?_
  intro p e s m args below meth c A Q ls S hin hK hP hD hZ hS hA hl hret0
  have hx := S.1
  have hb := S.2.1
  have hts := S.2.2.2.2
  have hl : lv_has ls 5 [(0, .ref o), (1, .null), (2, .null), (3, .int (0 : Int32)), (4, .int (0 : Int32))] := hl
  refine lv_aload_n hx hb dJ11_init_2_0 rfl (lv_at hl 0 rfl) ?_
  refine W.objInit hx hb S.2.2.2.1 (hts _ q703) (hts _ q136) (hts _ q137) rfl (by rw [S.2.2.1]; exact hl.1) rfl dJ11_init_2_1 (Nat.le_of_ble_eq_true rfl) (Nat.le_of_ble_eq_true rfl) ?_
  refine W.eq (g2 := F0 m 4 ls []) rfl ?_
  refine lv_aload_n hx hb dJ11_init_2_4 rfl (lv_at hl 0 rfl) ?_
  refine lv_aload_n hx hb dJ11_init_2_5 rfl (lv_at hl 0 rfl) ?_
  refine g_put hx hb hts S.2.2.2.1 hK hP hD hS in_X16 tyX16 tyX16_ok nmX16 0 rfl rfl 1 (by decide) q738 (fun _ h9 => h9) rfl (v := .ref o) rfl rfl rfl (Nat.le_of_ble_eq_true rfl) (w' := [(o, .inr (15, [.int (0 : Int32), .ref o, .null, .null, .null, .null, .int (0 : Int32)]))]) rfl dJ11_init_2_6 ?_
  clear hP hD hS
  intro H locs hP hD hS
  refine lv_aload_n hx hb dJ11_init_2_9 rfl (lv_at hl 0 rfl) ?_
  rcases hZ.2.1 with hsi | ⟨ts_1, hsi⟩
  · refine va_gets hx hb hsi hS S.2.2.2.1 (hts _ q704) (fun _ h9 => h9) dJ11_init_2_10 ?_
    refine g_put hx hb hts S.2.2.2.1 hK hP hD hS in_X16 tyX16 tyX16_ok nmX16 0 rfl rfl 2 (by decide) q739 (fun _ h9 => h9) rfl (v := .null) rfl rfl rfl (Nat.le_of_ble_eq_true rfl) (w' := [(o, .inr (15, [.int (0 : Int32), .ref o, .null, .null, .null, .null, .int (0 : Int32)]))]) rfl dJ11_init_2_13 ?_
    clear hP hD hS
    intro H locs hP hD hS
    refine lv_aload_n hx hb dJ11_init_2_16 rfl (lv_at hl 0 rfl) ?_
    rcases hZ.2.2.1 with hsi | ⟨ts_2, hsi⟩
    · refine va_gets hx hb hsi hS S.2.2.2.1 (hts _ q706) (fun _ h9 => h9) dJ11_init_2_17 ?_
      refine g_put hx hb hts S.2.2.2.1 hK hP hD hS in_X16 tyX16 tyX16_ok nmX16 0 rfl rfl 3 (by decide) q740 (fun _ h9 => h9) rfl (v := .null) rfl rfl rfl (Nat.le_of_ble_eq_true rfl) (w' := [(o, .inr (15, [.int (0 : Int32), .ref o, .null, .null, .null, .null, .int (0 : Int32)]))]) rfl dJ11_init_2_20 ?_
      clear hP hD hS
      intro H locs hP hD hS
      refine lv_iload hx hb dJ11_init_2_23 (lv_at hl 4 rfl) ?_
      refine lv_if_eq (tgt := 36) hx hb dJ11_init_2_25 (by decide) (fun hc => ?_) (fun hc => absurd (by decide) hc)
      clear hc
      refine lv_aload_n hx hb dJ11_init_2_36 rfl (lv_at hl 0 rfl) ?_
      refine lv_null hx hb dJ11_init_2_37 ?_
      refine g_put hx hb hts S.2.2.2.1 hK hP hD hS in_X16 tyX16 tyX16_ok nmX16 0 rfl rfl 2 (by decide) q739 (fun _ h9 => h9) rfl (v := .null) rfl rfl rfl (Nat.le_of_ble_eq_true rfl) (w' := [(o, .inr (15, [.int (0 : Int32), .ref o, .null, .null, .null, .null, .int (0 : Int32)]))]) rfl dJ11_init_2_38 ?_
      clear hP hD hS
      intro H locs hP hD hS
      refine lv_aload_n hx hb dJ11_init_2_41 rfl (lv_at hl 0 rfl) ?_
      refine lv_aload_nN hx hb dJ11_init_2_42 rfl (lv_at hl 1 rfl) ?_
      refine g_put hx hb hts S.2.2.2.1 hK hP hD hS in_X16 tyX16 tyX16_ok nmX16 0 rfl rfl 4 (by decide) q737 (fun _ h9 => h9) rfl (v := .null) rfl rfl rfl (Nat.le_of_ble_eq_true rfl) (w' := [(o, .inr (15, [.int (0 : Int32), .ref o, .null, .null, .null, .null, .int (0 : Int32)]))]) rfl dJ11_init_2_43 ?_
      clear hP hD hS
      intro H locs hP hD hS
      refine lv_aload_n hx hb dJ11_init_2_46 rfl (lv_at hl 0 rfl) ?_
      refine lv_aload_nN hx hb dJ11_init_2_47 rfl (lv_at hl 2 rfl) ?_
      refine g_put hx hb hts S.2.2.2.1 hK hP hD hS in_X16 tyX16 tyX16_ok nmX16 0 rfl rfl 1 (by decide) q738 (fun _ h9 => h9) rfl (v := .null) rfl rfl rfl (Nat.le_of_ble_eq_true rfl) (w' := [(o, .inr (15, [.int (0 : Int32), .null, .null, .null, .null, .null, .int (0 : Int32)]))]) rfl dJ11_init_2_48 ?_
      clear hP hD hS
      intro H locs hP hD hS
      refine lv_iload_n hx hb dJ11_init_2_51 rfl (lv_at hl 3 rfl) ?_
      refine lv_if_ne (tgt := 60) hx hb dJ11_init_2_52 (by decide) (fun hc => absurd hc (by decide)) (fun hc => ?_)
      clear hc
      refine lv_aload_n hx hb dJ11_init_2_55 rfl (lv_at hl 0 rfl) ?_
      refine lv_null hx hb dJ11_init_2_56 ?_
      refine g_put hx hb hts S.2.2.2.1 hK hP hD hS in_X16 tyX16 tyX16_ok nmX16 0 rfl rfl 3 (by decide) q740 (fun _ h9 => h9) rfl (v := .null) rfl rfl rfl (Nat.le_of_ble_eq_true rfl) (w' := [(o, .inr (15, [.int (0 : Int32), .null, .null, .null, .null, .null, .int (0 : Int32)]))]) rfl dJ11_init_2_57 ?_
      clear hP hD hS
      intro H locs hP hD hS
      refine W.widen (k := 0) (n := 0) (Nat.le_of_ble_eq_true rfl) (Nat.le_of_ble_eq_true rfl) ?_
      exact hret0 (fun _ => 0) trivial _ _ _ _ dJ11_init_2_60 hP hD hS
    · refine va_gets hx hb hsi hS S.2.2.2.1 (hts _ q706) (fun _ h9 => h9) dJ11_init_2_17 ?_
      refine g_put hx hb hts S.2.2.2.1 hK hP hD hS in_X16 tyX16 tyX16_ok nmX16 0 rfl rfl 3 (by decide) q740 (fun _ h9 => h9) rfl (v := .ref ts_2) rfl rfl rfl (Nat.le_of_ble_eq_true rfl) (w' := [(o, .inr (15, [.int (0 : Int32), .ref o, .null, .ref ts_2, .null, .null, .int (0 : Int32)]))]) rfl dJ11_init_2_20 ?_
      clear hP hD hS
      intro H locs hP hD hS
      refine lv_iload hx hb dJ11_init_2_23 (lv_at hl 4 rfl) ?_
      refine lv_if_eq (tgt := 36) hx hb dJ11_init_2_25 (by decide) (fun hc => ?_) (fun hc => absurd (by decide) hc)
      clear hc
      refine lv_aload_n hx hb dJ11_init_2_36 rfl (lv_at hl 0 rfl) ?_
      refine lv_null hx hb dJ11_init_2_37 ?_
      refine g_put hx hb hts S.2.2.2.1 hK hP hD hS in_X16 tyX16 tyX16_ok nmX16 0 rfl rfl 2 (by decide) q739 (fun _ h9 => h9) rfl (v := .null) rfl rfl rfl (Nat.le_of_ble_eq_true rfl) (w' := [(o, .inr (15, [.int (0 : Int32), .ref o, .null, .ref ts_2, .null, .null, .int (0 : Int32)]))]) rfl dJ11_init_2_38 ?_
      clear hP hD hS
      intro H locs hP hD hS
      refine lv_aload_n hx hb dJ11_init_2_41 rfl (lv_at hl 0 rfl) ?_
      refine lv_aload_nN hx hb dJ11_init_2_42 rfl (lv_at hl 1 rfl) ?_
      refine g_put hx hb hts S.2.2.2.1 hK hP hD hS in_X16 tyX16 tyX16_ok nmX16 0 rfl rfl 4 (by decide) q737 (fun _ h9 => h9) rfl (v := .null) rfl rfl rfl (Nat.le_of_ble_eq_true rfl) (w' := [(o, .inr (15, [.int (0 : Int32), .ref o, .null, .ref ts_2, .null, .null, .int (0 : Int32)]))]) rfl dJ11_init_2_43 ?_
      clear hP hD hS
      intro H locs hP hD hS
      refine lv_aload_n hx hb dJ11_init_2_46 rfl (lv_at hl 0 rfl) ?_
      refine lv_aload_nN hx hb dJ11_init_2_47 rfl (lv_at hl 2 rfl) ?_
      refine g_put hx hb hts S.2.2.2.1 hK hP hD hS in_X16 tyX16 tyX16_ok nmX16 0 rfl rfl 1 (by decide) q738 (fun _ h9 => h9) rfl (v := .null) rfl rfl rfl (Nat.le_of_ble_eq_true rfl) (w' := [(o, .inr (15, [.int (0 : Int32), .null, .null, .ref ts_2, .null, .null, .int (0 : Int32)]))]) rfl dJ11_init_2_48 ?_
      clear hP hD hS
      intro H locs hP hD hS
      refine lv_iload_n hx hb dJ11_init_2_51 rfl (lv_at hl 3 rfl) ?_
      refine lv_if_ne (tgt := 60) hx hb dJ11_init_2_52 (by decide) (fun hc => absurd hc (by decide)) (fun hc => ?_)
      clear hc
      refine lv_aload_n hx hb dJ11_init_2_55 rfl (lv_at hl 0 rfl) ?_
      refine lv_null hx hb dJ11_init_2_56 ?_
      refine g_put hx hb hts S.2.2.2.1 hK hP hD hS in_X16 tyX16 tyX16_ok nmX16 0 rfl rfl 3 (by decide) q740 (fun _ h9 => h9) rfl (v := .null) rfl rfl rfl (Nat.le_of_ble_eq_true rfl) (w' := [(o, .inr (15, [.int (0 : Int32), .null, .null, .null, .null, .null, .int (0 : Int32)]))]) rfl dJ11_init_2_57 ?_
      clear hP hD hS
      intro H locs hP hD hS
      refine W.widen (k := 0) (n := 0) (Nat.le_of_ble_eq_true rfl) (Nat.le_of_ble_eq_true rfl) ?_
      exact hret0 (fun _ => 0) trivial _ _ _ _ dJ11_init_2_60 hP hD hS
  · refine va_gets hx hb hsi hS S.2.2.2.1 (hts _ q704) (fun _ h9 => h9) dJ11_init_2_10 ?_
    refine g_put hx hb hts S.2.2.2.1 hK hP hD hS in_X16 tyX16 tyX16_ok nmX16 0 rfl rfl 2 (by decide) q739 (fun _ h9 => h9) rfl (v := .ref ts_1) rfl rfl rfl (Nat.le_of_ble_eq_true rfl) (w' := [(o, .inr (15, [.int (0 : Int32), .ref o, .ref ts_1, .null, .null, .null, .int (0 : Int32)]))]) rfl dJ11_init_2_13 ?_
    clear hP hD hS
    intro H locs hP hD hS
    refine lv_aload_n hx hb dJ11_init_2_16 rfl (lv_at hl 0 rfl) ?_
    rcases hZ.2.2.1 with hsi | ⟨ts_2, hsi⟩
    · refine va_gets hx hb hsi hS S.2.2.2.1 (hts _ q706) (fun _ h9 => h9) dJ11_init_2_17 ?_
      refine g_put hx hb hts S.2.2.2.1 hK hP hD hS in_X16 tyX16 tyX16_ok nmX16 0 rfl rfl 3 (by decide) q740 (fun _ h9 => h9) rfl (v := .null) rfl rfl rfl (Nat.le_of_ble_eq_true rfl) (w' := [(o, .inr (15, [.int (0 : Int32), .ref o, .ref ts_1, .null, .null, .null, .int (0 : Int32)]))]) rfl dJ11_init_2_20 ?_
      clear hP hD hS
      intro H locs hP hD hS
      refine lv_iload hx hb dJ11_init_2_23 (lv_at hl 4 rfl) ?_
      refine lv_if_eq (tgt := 36) hx hb dJ11_init_2_25 (by decide) (fun hc => ?_) (fun hc => absurd (by decide) hc)
      clear hc
      refine lv_aload_n hx hb dJ11_init_2_36 rfl (lv_at hl 0 rfl) ?_
      refine lv_null hx hb dJ11_init_2_37 ?_
      refine g_put hx hb hts S.2.2.2.1 hK hP hD hS in_X16 tyX16 tyX16_ok nmX16 0 rfl rfl 2 (by decide) q739 (fun _ h9 => h9) rfl (v := .null) rfl rfl rfl (Nat.le_of_ble_eq_true rfl) (w' := [(o, .inr (15, [.int (0 : Int32), .ref o, .null, .null, .null, .null, .int (0 : Int32)]))]) rfl dJ11_init_2_38 ?_
      clear hP hD hS
      intro H locs hP hD hS
      refine lv_aload_n hx hb dJ11_init_2_41 rfl (lv_at hl 0 rfl) ?_
      refine lv_aload_nN hx hb dJ11_init_2_42 rfl (lv_at hl 1 rfl) ?_
      refine g_put hx hb hts S.2.2.2.1 hK hP hD hS in_X16 tyX16 tyX16_ok nmX16 0 rfl rfl 4 (by decide) q737 (fun _ h9 => h9) rfl (v := .null) rfl rfl rfl (Nat.le_of_ble_eq_true rfl) (w' := [(o, .inr (15, [.int (0 : Int32), .ref o, .null, .null, .null, .null, .int (0 : Int32)]))]) rfl dJ11_init_2_43 ?_
      clear hP hD hS
      intro H locs hP hD hS
      refine lv_aload_n hx hb dJ11_init_2_46 rfl (lv_at hl 0 rfl) ?_
      refine lv_aload_nN hx hb dJ11_init_2_47 rfl (lv_at hl 2 rfl) ?_
      refine g_put hx hb hts S.2.2.2.1 hK hP hD hS in_X16 tyX16 tyX16_ok nmX16 0 rfl rfl 1 (by decide) q738 (fun _ h9 => h9) rfl (v := .null) rfl rfl rfl (Nat.le_of_ble_eq_true rfl) (w' := [(o, .inr (15, [.int (0 : Int32), .null, .null, .null, .null, .null, .int (0 : Int32)]))]) rfl dJ11_init_2_48 ?_
      clear hP hD hS
      intro H locs hP hD hS
      refine lv_iload_n hx hb dJ11_init_2_51 rfl (lv_at hl 3 rfl) ?_
      refine lv_if_ne (tgt := 60) hx hb dJ11_init_2_52 (by decide) (fun hc => absurd hc (by decide)) (fun hc => ?_)
      clear hc
      refine lv_aload_n hx hb dJ11_init_2_55 rfl (lv_at hl 0 rfl) ?_
      refine lv_null hx hb dJ11_init_2_56 ?_
      refine g_put hx hb hts S.2.2.2.1 hK hP hD hS in_X16 tyX16 tyX16_ok nmX16 0 rfl rfl 3 (by decide) q740 (fun _ h9 => h9) rfl (v := .null) rfl rfl rfl (Nat.le_of_ble_eq_true rfl) (w' := [(o, .inr (15, [.int (0 : Int32), .null, .null, .null, .null, .null, .int (0 : Int32)]))]) rfl dJ11_init_2_57 ?_
      clear hP hD hS
      intro H locs hP hD hS
      refine W.widen (k := 0) (n := 0) (Nat.le_of_ble_eq_true rfl) (Nat.le_of_ble_eq_true rfl) ?_
      exact hret0 (fun _ => 0) trivial _ _ _ _ dJ11_init_2_60 hP hD hS
    · refine va_gets hx hb hsi hS S.2.2.2.1 (hts _ q706) (fun _ h9 => h9) dJ11_init_2_17 ?_
      refine g_put hx hb hts S.2.2.2.1 hK hP hD hS in_X16 tyX16 tyX16_ok nmX16 0 rfl rfl 3 (by decide) q740 (fun _ h9 => h9) rfl (v := .ref ts_2) rfl rfl rfl (Nat.le_of_ble_eq_true rfl) (w' := [(o, .inr (15, [.int (0 : Int32), .ref o, .ref ts_1, .ref ts_2, .null, .null, .int (0 : Int32)]))]) rfl dJ11_init_2_20 ?_
      clear hP hD hS
      intro H locs hP hD hS
      refine lv_iload hx hb dJ11_init_2_23 (lv_at hl 4 rfl) ?_
      refine lv_if_eq (tgt := 36) hx hb dJ11_init_2_25 (by decide) (fun hc => ?_) (fun hc => absurd (by decide) hc)
      clear hc
      refine lv_aload_n hx hb dJ11_init_2_36 rfl (lv_at hl 0 rfl) ?_
      refine lv_null hx hb dJ11_init_2_37 ?_
      refine g_put hx hb hts S.2.2.2.1 hK hP hD hS in_X16 tyX16 tyX16_ok nmX16 0 rfl rfl 2 (by decide) q739 (fun _ h9 => h9) rfl (v := .null) rfl rfl rfl (Nat.le_of_ble_eq_true rfl) (w' := [(o, .inr (15, [.int (0 : Int32), .ref o, .null, .ref ts_2, .null, .null, .int (0 : Int32)]))]) rfl dJ11_init_2_38 ?_
      clear hP hD hS
      intro H locs hP hD hS
      refine lv_aload_n hx hb dJ11_init_2_41 rfl (lv_at hl 0 rfl) ?_
      refine lv_aload_nN hx hb dJ11_init_2_42 rfl (lv_at hl 1 rfl) ?_
      refine g_put hx hb hts S.2.2.2.1 hK hP hD hS in_X16 tyX16 tyX16_ok nmX16 0 rfl rfl 4 (by decide) q737 (fun _ h9 => h9) rfl (v := .null) rfl rfl rfl (Nat.le_of_ble_eq_true rfl) (w' := [(o, .inr (15, [.int (0 : Int32), .ref o, .null, .ref ts_2, .null, .null, .int (0 : Int32)]))]) rfl dJ11_init_2_43 ?_
      clear hP hD hS
      intro H locs hP hD hS
      refine lv_aload_n hx hb dJ11_init_2_46 rfl (lv_at hl 0 rfl) ?_
      refine lv_aload_nN hx hb dJ11_init_2_47 rfl (lv_at hl 2 rfl) ?_
      refine g_put hx hb hts S.2.2.2.1 hK hP hD hS in_X16 tyX16 tyX16_ok nmX16 0 rfl rfl 1 (by decide) q738 (fun _ h9 => h9) rfl (v := .null) rfl rfl rfl (Nat.le_of_ble_eq_true rfl) (w' := [(o, .inr (15, [.int (0 : Int32), .null, .null, .ref ts_2, .null, .null, .int (0 : Int32)]))]) rfl dJ11_init_2_48 ?_
      clear hP hD hS
      intro H locs hP hD hS
      refine lv_iload_n hx hb dJ11_init_2_51 rfl (lv_at hl 3 rfl) ?_
      refine lv_if_ne (tgt := 60) hx hb dJ11_init_2_52 (by decide) (fun hc => absurd hc (by decide)) (fun hc => ?_)
      clear hc
      refine lv_aload_n hx hb dJ11_init_2_55 rfl (lv_at hl 0 rfl) ?_
      refine lv_null hx hb dJ11_init_2_56 ?_
      refine g_put hx hb hts S.2.2.2.1 hK hP hD hS in_X16 tyX16 tyX16_ok nmX16 0 rfl rfl 3 (by decide) q740 (fun _ h9 => h9) rfl (v := .null) rfl rfl rfl (Nat.le_of_ble_eq_true rfl) (w' := [(o, .inr (15, [.int (0 : Int32), .null, .null, .null, .null, .null, .int (0 : Int32)]))]) rfl dJ11_init_2_57 ?_
      clear hP hD hS
      intro H locs hP hD hS
      refine W.widen (k := 0) (n := 0) (Nat.le_of_ble_eq_true rfl) (Nat.le_of_ble_eq_true rfl) ?_
      exact hret0 (fun _ => 0) trivial _ _ _ _ dJ11_init_2_60 hP hD hS
set_option maxHeartbeats 4000000 in
set_option maxRecDepth 100000 in
theorem tJ12_init_X16n (l : Launch) (D : va_G) (d : Nat → ClassId) (z : ZT) (o : Nat) : CVS l yJ12_init (ws_ yJ12_init cJ12_init 5 (Option.none : Option Jvm.ClassFile.FieldType)) (rmc 2 0 0 36) D d z [.ref o, .null, .null, .int (0 : Int32), .int (0 : Int32)] ([(o, .inr (15, [.int (0 : Int32), .null, .null, .null, .null, .null, .int (0 : Int32)]))]) (fun u : UU => [(o, .inr (15, [.int (0 : Int32), .null, .null, .null, .null, .null, .int (0 : Int32)]))]) (fun _ => True) := by
  refine CVS.of (rt := .int) (own := RJ12) rfl (by decide) (Nat.le_of_ble_eq_true rfl) ?_
  intro p e s m args below meth c A Q ls S hin hK hP hD hZ hS hA hl hret0
  have hx := S.1
  have hb := S.2.1
  have hts := S.2.2.2.2
  have hl : lv_has ls 5 [(0, .ref o), (1, .null), (2, .null), (3, .int (0 : Int32)), (4, .int (0 : Int32))] := hl
  refine lv_aload_n hx hb dJ12_init_0 rfl (lv_at hl 0 rfl) ?_
  refine lv_aload_nN hx hb dJ12_init_1 rfl (lv_at hl 1 rfl) ?_
  refine lv_aload_nN hx hb dJ12_init_2 rfl (lv_at hl 2 rfl) ?_
  refine lv_iload_n hx hb dJ12_init_3 rfl (lv_at hl 3 rfl) ?_
  refine lv_iload hx hb dJ12_init_4 (lv_at hl 4 rfl) ?_
  refine run_vS0 (wr := []) (w' := fun u : UU => [(o, .inr (15, [.int (0 : Int32), .null, .null, .null, .null, .null, .int (0 : Int32)]))]) (va_runI (As := [.null, .null, .int (0 : Int32), .int (0 : Int32)]) (rest := []) S (tJ11_init_2_X16n l D d z o _) (cwI 4 hts (lw_meth q731) rfl rfl rfl (hts _ q113) (hts _ q729) (hts _ q730) rfl (by decide +kernel) ⟨(Nat.le_of_ble_eq_true rfl), (Nat.le_of_ble_eq_true rfl)⟩) ⟨Pw.blind, fun U hU hW => Pw.cut (tl := []) hK (by rw [List.append_nil]; exact hP) (by rw [List.append_nil]; exact hD) hZ hS hA [0] rfl rfl hU hW⟩ rfl rfl hl.1 rfl (lv_room (Nat.le_of_ble_eq_true rfl)) dJ12_init_6 ⟨(Nat.le_of_ble_eq_true rfl), (Nat.le_of_ble_eq_true rfl)⟩) hP hD hS hA [0] [] [0] rfl rfl rfl rfl (by decide) rfl (fun _ => rfl) ?_
  clear hP hD hS
  intro u_1 _ H locs hP hD hS
  refine W.widen (k := 0) (n := 0) (Nat.le_of_ble_eq_true rfl) (Nat.le_of_ble_eq_true rfl) ?_
  exact hret0 (fun _ => 0) trivial _ _ _ _ dJ12_init_9 hP hD hS
set_option maxHeartbeats 4000000 in
set_option maxRecDepth 100000 in
theorem tX10_init_X16n (l : Launch) (D : va_G) (d : Nat → ClassId) (z : ZT) (o : Nat) : CVS l yX10_init (ws_ yX10_init cX10_init 3 (Option.none : Option Jvm.ClassFile.FieldType)) (rmc 3 0 0 60) D d z [.ref o, .int (0 : Int32), .null] ([(o, .inr (15, [.int (0 : Int32), .null, .null, .null, .null, .null, .int (0 : Int32)]))]) (fun u : UU => [(o, .inr (15, [.int (0 : Int32), .null, .null, .null, .null, .null, .int (0 : Int32)]))]) (fun _ => True) := by
  refine CVS.of (rt := .int) (own := RX10) rfl (by decide) (Nat.le_of_ble_eq_true rfl) ?_
  intro p e s m args below meth c A Q ls S hin hK hP hD hZ hS hA hl hret0
  have hx := S.1
  have hb := S.2.1
  have hts := S.2.2.2.2
  have hl : lv_has ls 3 [(0, .ref o), (1, .int (0 : Int32)), (2, .null)] := hl
  refine lv_aload_n hx hb dX10_init_0 rfl (lv_at hl 0 rfl) ?_
  refine lv_null hx hb dX10_init_1 ?_
  refine lv_aload_nN hx hb dX10_init_2 rfl (lv_at hl 2 rfl) ?_
  refine lv_iconst (v := 0) hx hb dX10_init_3 (by decide) ?_
  refine lv_iconst (v := 0) hx hb dX10_init_4 (by decide) ?_
  refine run_vS0 (wr := []) (w' := fun u : UU => [(o, .inr (15, [.int (0 : Int32), .null, .null, .null, .null, .null, .int (0 : Int32)]))]) (va_runI (As := [.null, .null, .int (0 : Int32), .int (0 : Int32)]) (rest := []) S (tJ12_init_X16n l D d z o _) (cwI 4 hts (lw_meth q728) rfl rfl rfl (hts _ q114) (hts _ q1317) (hts _ q727) rfl (by decide +kernel) ⟨(Nat.le_of_ble_eq_true rfl), (Nat.le_of_ble_eq_true rfl)⟩) ⟨Pw.blind, fun U hU hW => Pw.cut (tl := []) hK (by rw [List.append_nil]; exact hP) (by rw [List.append_nil]; exact hD) hZ hS hA [0] rfl rfl hU hW⟩ rfl rfl hl.1 rfl (lv_room (Nat.le_of_ble_eq_true rfl)) dX10_init_5 ⟨(Nat.le_of_ble_eq_true rfl), (Nat.le_of_ble_eq_true rfl)⟩) hP hD hS hA [0] [] [0] rfl rfl rfl rfl (by decide) rfl (fun _ => rfl) ?_
  clear hP hD hS
  intro u_1 _ H locs hP hD hS
  refine lv_aload_n hx hb dX10_init_8 rfl (lv_at hl 0 rfl) ?_
  refine lv_iload_n hx hb dX10_init_9 rfl (lv_at hl 1 rfl) ?_
  refine g_putF hx hb hts S.2.2.2.1 hK hP hD hS in_X16 tyX16 tyX16_ok nmX16 0 rfl rfl 0 (by decide) q1318 (fun _ h9 => h9) rfl hin rfl (v := .int (0 : Int32)) rfl rfl rfl (Nat.le_of_ble_eq_true rfl) (w' := [(o, .inr (15, [.int (0 : Int32), .null, .null, .null, .null, .null, .int (0 : Int32)]))]) rfl dX10_init_10 ?_
  clear hP hD hS
  intro H locs hP hD hS
  refine W.widen (k := 0) (n := 0) (Nat.le_of_ble_eq_true rfl) (Nat.le_of_ble_eq_true rfl) ?_
  exact hret0 (fun _ => 0) trivial _ _ _ _ dX10_init_13 hP hD hS
set_option maxHeartbeats 4000000 in
set_option maxRecDepth 100000 in
theorem tX16_initn (l : Launch) (D : va_G) (d : Nat → ClassId) (z : ZT) (o : Nat) : CVS l yX16_init (ws_ yX16_init cX16_init 1 (Option.none : Option Jvm.ClassFile.FieldType)) (rmc 4 0 0 82) D d z [.ref o] ([(o, .inr (15, [.int (0 : Int32), .null, .null, .null, .null, .null, .int (0 : Int32)]))]) (fun u : UU => [(o, .inr (15, [.int (0 : Int32), .null, .null, .null, .null, .null, .int (0 : Int32)]))]) (fun _ => True) := by
  refine CVS.of (rt := .int) (own := RX16) rfl (by decide) (Nat.le_of_ble_eq_true rfl) ?_
  intro p e s m args below meth c A Q ls S hin hK hP hD hZ hS hA hl hret0
  have hx := S.1
  have hb := S.2.1
  have hts := S.2.2.2.2
  have hl : lv_has ls 1 [(0, .ref o)] := hl
  refine lv_aload_n hx hb dX16_init_0 rfl (lv_at hl 0 rfl) ?_
  refine lv_iconst (v := 0) hx hb dX16_init_1 (by decide) ?_
  refine lv_null hx hb dX16_init_2 ?_
  refine run_vS0 (wr := []) (w' := fun u : UU => [(o, .inr (15, [.int (0 : Int32), .null, .null, .null, .null, .null, .int (0 : Int32)]))]) (va_runI (As := [.int (0 : Int32), .null]) (rest := []) S (tX10_init_X16n l D d z o _) (cwI 2 hts (lw_meth q1316) rfl rfl rfl (hts _ q122) (hts _ q1426) (hts _ q1315) rfl (by decide +kernel) ⟨(Nat.le_of_ble_eq_true rfl), (Nat.le_of_ble_eq_true rfl)⟩) ⟨Pw.blind, fun U hU hW => Pw.cut (tl := []) hK (by rw [List.append_nil]; exact hP) (by rw [List.append_nil]; exact hD) hZ hS hA [0] rfl rfl hU hW⟩ rfl rfl hl.1 rfl (lv_room (Nat.le_of_ble_eq_true rfl)) dX16_init_3 ⟨(Nat.le_of_ble_eq_true rfl), (Nat.le_of_ble_eq_true rfl)⟩) hP hD hS hA [0] [] [0] rfl rfl rfl rfl (by decide) rfl (fun _ => rfl) ?_
  clear hP hD hS
  intro u_1 _ H locs hP hD hS
  refine W.widen (k := 0) (n := 0) (Nat.le_of_ble_eq_true rfl) (Nat.le_of_ble_eq_true rfl) ?_
  exact hret0 (fun _ => 0) trivial _ _ _ _ dX16_init_6 hP hD hS
set_option maxHeartbeats 4000000 in
set_option maxRecDepth 100000 in
theorem tJ11_init_2_X7n (l : Launch) (D : va_G) (d : Nat → ClassId) (z : ZT) (o : Nat) : CVS l yJ11_init_2 (ws_ yJ11_init_2 cJ11_init_2 5 (Option.none : Option Jvm.ClassFile.FieldType)) (rmc 1 0 0 12) D d z [.ref o, .null, .null, .int (0 : Int32), .int (0 : Int32)] ([(o, .inr (7, [.null, .null, .null, .null, .null, .int (0 : Int32), .int (0 : Int32), .int (0 : Int32)]))]) (fun u : UU => [(o, .inr (7, [.null, .null, .null, .null, .null, .int (0 : Int32), .int (0 : Int32), .int (0 : Int32)]))]) (fun _ => True) := by
  refine CVS.of (rt := .int) (own := RJ11) rfl (by decide) (Nat.le_of_ble_eq_true rfl) ?_
  intro p e s m args below meth c A Q ls S hin hK hP hD hZ hS hA hl hret0
  have hx := S.1
  have hb := S.2.1
  have hts := S.2.2.2.2
  have hl : lv_has ls 5 [(0, .ref o), (1, .null), (2, .null), (3, .int (0 : Int32)), (4, .int (0 : Int32))] := hl
  refine lv_aload_n hx hb dJ11_init_2_0 rfl (lv_at hl 0 rfl) ?_
  refine W.objInit hx hb S.2.2.2.1 (hts _ q703) (hts _ q136) (hts _ q137) rfl (by rw [S.2.2.1]; exact hl.1) rfl dJ11_init_2_1 (Nat.le_of_ble_eq_true rfl) (Nat.le_of_ble_eq_true rfl) ?_
  refine W.eq (g2 := F0 m 4 ls []) rfl ?_
  refine lv_aload_n hx hb dJ11_init_2_4 rfl (lv_at hl 0 rfl) ?_
  refine lv_aload_n hx hb dJ11_init_2_5 rfl (lv_at hl 0 rfl) ?_
  refine g_put hx hb hts S.2.2.2.1 hK hP hD hS in_X7 tyX7 tyX7_ok nmX7 0 rfl rfl 0 (by decide) q738 (fun _ h9 => h9) rfl (v := .ref o) rfl rfl rfl (Nat.le_of_ble_eq_true rfl) (w' := [(o, .inr (7, [.ref o, .null, .null, .null, .null, .int (0 : Int32), .int (0 : Int32), .int (0 : Int32)]))]) rfl dJ11_init_2_6 ?_
  clear hP hD hS
  intro H locs hP hD hS
  refine lv_aload_n hx hb dJ11_init_2_9 rfl (lv_at hl 0 rfl) ?_
  rcases hZ.2.1 with hsi | ⟨ts_1, hsi⟩
  · refine va_gets hx hb hsi hS S.2.2.2.1 (hts _ q704) (fun _ h9 => h9) dJ11_init_2_10 ?_
    refine g_put hx hb hts S.2.2.2.1 hK hP hD hS in_X7 tyX7 tyX7_ok nmX7 0 rfl rfl 1 (by decide) q739 (fun _ h9 => h9) rfl (v := .null) rfl rfl rfl (Nat.le_of_ble_eq_true rfl) (w' := [(o, .inr (7, [.ref o, .null, .null, .null, .null, .int (0 : Int32), .int (0 : Int32), .int (0 : Int32)]))]) rfl dJ11_init_2_13 ?_
    clear hP hD hS
    intro H locs hP hD hS
    refine lv_aload_n hx hb dJ11_init_2_16 rfl (lv_at hl 0 rfl) ?_
    rcases hZ.2.2.1 with hsi | ⟨ts_2, hsi⟩
    · refine va_gets hx hb hsi hS S.2.2.2.1 (hts _ q706) (fun _ h9 => h9) dJ11_init_2_17 ?_
      refine g_put hx hb hts S.2.2.2.1 hK hP hD hS in_X7 tyX7 tyX7_ok nmX7 0 rfl rfl 2 (by decide) q740 (fun _ h9 => h9) rfl (v := .null) rfl rfl rfl (Nat.le_of_ble_eq_true rfl) (w' := [(o, .inr (7, [.ref o, .null, .null, .null, .null, .int (0 : Int32), .int (0 : Int32), .int (0 : Int32)]))]) rfl dJ11_init_2_20 ?_
      clear hP hD hS
      intro H locs hP hD hS
      refine lv_iload hx hb dJ11_init_2_23 (lv_at hl 4 rfl) ?_
      refine lv_if_eq (tgt := 36) hx hb dJ11_init_2_25 (by decide) (fun hc => ?_) (fun hc => absurd (by decide) hc)
      clear hc
      refine lv_aload_n hx hb dJ11_init_2_36 rfl (lv_at hl 0 rfl) ?_
      refine lv_null hx hb dJ11_init_2_37 ?_
      refine g_put hx hb hts S.2.2.2.1 hK hP hD hS in_X7 tyX7 tyX7_ok nmX7 0 rfl rfl 1 (by decide) q739 (fun _ h9 => h9) rfl (v := .null) rfl rfl rfl (Nat.le_of_ble_eq_true rfl) (w' := [(o, .inr (7, [.ref o, .null, .null, .null, .null, .int (0 : Int32), .int (0 : Int32), .int (0 : Int32)]))]) rfl dJ11_init_2_38 ?_
      clear hP hD hS
      intro H locs hP hD hS
      refine lv_aload_n hx hb dJ11_init_2_41 rfl (lv_at hl 0 rfl) ?_
      refine lv_aload_nN hx hb dJ11_init_2_42 rfl (lv_at hl 1 rfl) ?_
      refine g_put hx hb hts S.2.2.2.1 hK hP hD hS in_X7 tyX7 tyX7_ok nmX7 0 rfl rfl 3 (by decide) q737 (fun _ h9 => h9) rfl (v := .null) rfl rfl rfl (Nat.le_of_ble_eq_true rfl) (w' := [(o, .inr (7, [.ref o, .null, .null, .null, .null, .int (0 : Int32), .int (0 : Int32), .int (0 : Int32)]))]) rfl dJ11_init_2_43 ?_
      clear hP hD hS
      intro H locs hP hD hS
      refine lv_aload_n hx hb dJ11_init_2_46 rfl (lv_at hl 0 rfl) ?_
      refine lv_aload_nN hx hb dJ11_init_2_47 rfl (lv_at hl 2 rfl) ?_
      refine g_put hx hb hts S.2.2.2.1 hK hP hD hS in_X7 tyX7 tyX7_ok nmX7 0 rfl rfl 0 (by decide) q738 (fun _ h9 => h9) rfl (v := .null) rfl rfl rfl (Nat.le_of_ble_eq_true rfl) (w' := [(o, .inr (7, [.null, .null, .null, .null, .null, .int (0 : Int32), .int (0 : Int32), .int (0 : Int32)]))]) rfl dJ11_init_2_48 ?_
      clear hP hD hS
      intro H locs hP hD hS
      refine lv_iload_n hx hb dJ11_init_2_51 rfl (lv_at hl 3 rfl) ?_
      refine lv_if_ne (tgt := 60) hx hb dJ11_init_2_52 (by decide) (fun hc => absurd hc (by decide)) (fun hc => ?_)
      clear hc
      refine lv_aload_n hx hb dJ11_init_2_55 rfl (lv_at hl 0 rfl) ?_
      refine lv_null hx hb dJ11_init_2_56 ?_
      refine g_put hx hb hts S.2.2.2.1 hK hP hD hS in_X7 tyX7 tyX7_ok nmX7 0 rfl rfl 2 (by decide) q740 (fun _ h9 => h9) rfl (v := .null) rfl rfl rfl (Nat.le_of_ble_eq_true rfl) (w' := [(o, .inr (7, [.null, .null, .null, .null, .null, .int (0 : Int32), .int (0 : Int32), .int (0 : Int32)]))]) rfl dJ11_init_2_57 ?_
      clear hP hD hS
      intro H locs hP hD hS
      refine W.widen (k := 0) (n := 0) (Nat.le_of_ble_eq_true rfl) (Nat.le_of_ble_eq_true rfl) ?_
      exact hret0 (fun _ => 0) trivial _ _ _ _ dJ11_init_2_60 hP hD hS
    · refine va_gets hx hb hsi hS S.2.2.2.1 (hts _ q706) (fun _ h9 => h9) dJ11_init_2_17 ?_
      refine g_put hx hb hts S.2.2.2.1 hK hP hD hS in_X7 tyX7 tyX7_ok nmX7 0 rfl rfl 2 (by decide) q740 (fun _ h9 => h9) rfl (v := .ref ts_2) rfl rfl rfl (Nat.le_of_ble_eq_true rfl) (w' := [(o, .inr (7, [.ref o, .null, .ref ts_2, .null, .null, .int (0 : Int32), .int (0 : Int32), .int (0 : Int32)]))]) rfl dJ11_init_2_20 ?_
      clear hP hD hS
      intro H locs hP hD hS
      refine lv_iload hx hb dJ11_init_2_23 (lv_at hl 4 rfl) ?_
      refine lv_if_eq (tgt := 36) hx hb dJ11_init_2_25 (by decide) (fun hc => ?_) (fun hc => absurd (by decide) hc)
      clear hc
      refine lv_aload_n hx hb dJ11_init_2_36 rfl (lv_at hl 0 rfl) ?_
      refine lv_null hx hb dJ11_init_2_37 ?_
      refine g_put hx hb hts S.2.2.2.1 hK hP hD hS in_X7 tyX7 tyX7_ok nmX7 0 rfl rfl 1 (by decide) q739 (fun _ h9 => h9) rfl (v := .null) rfl rfl rfl (Nat.le_of_ble_eq_true rfl) (w' := [(o, .inr (7, [.ref o, .null, .ref ts_2, .null, .null, .int (0 : Int32), .int (0 : Int32), .int (0 : Int32)]))]) rfl dJ11_init_2_38 ?_
      clear hP hD hS
      intro H locs hP hD hS
      refine lv_aload_n hx hb dJ11_init_2_41 rfl (lv_at hl 0 rfl) ?_
      refine lv_aload_nN hx hb dJ11_init_2_42 rfl (lv_at hl 1 rfl) ?_
      refine g_put hx hb hts S.2.2.2.1 hK hP hD hS in_X7 tyX7 tyX7_ok nmX7 0 rfl rfl 3 (by decide) q737 (fun _ h9 => h9) rfl (v := .null) rfl rfl rfl (Nat.le_of_ble_eq_true rfl) (w' := [(o, .inr (7, [.ref o, .null, .ref ts_2, .null, .null, .int (0 : Int32), .int (0 : Int32), .int (0 : Int32)]))]) rfl dJ11_init_2_43 ?_
      clear hP hD hS
      intro H locs hP hD hS
      refine lv_aload_n hx hb dJ11_init_2_46 rfl (lv_at hl 0 rfl) ?_
      refine lv_aload_nN hx hb dJ11_init_2_47 rfl (lv_at hl 2 rfl) ?_
      refine g_put hx hb hts S.2.2.2.1 hK hP hD hS in_X7 tyX7 tyX7_ok nmX7 0 rfl rfl 0 (by decide) q738 (fun _ h9 => h9) rfl (v := .null) rfl rfl rfl (Nat.le_of_ble_eq_true rfl) (w' := [(o, .inr (7, [.null, .null, .ref ts_2, .null, .null, .int (0 : Int32), .int (0 : Int32), .int (0 : Int32)]))]) rfl dJ11_init_2_48 ?_
      clear hP hD hS
      intro H locs hP hD hS
      refine lv_iload_n hx hb dJ11_init_2_51 rfl (lv_at hl 3 rfl) ?_
      refine lv_if_ne (tgt := 60) hx hb dJ11_init_2_52 (by decide) (fun hc => absurd hc (by decide)) (fun hc => ?_)
      clear hc
      refine lv_aload_n hx hb dJ11_init_2_55 rfl (lv_at hl 0 rfl) ?_
      refine lv_null hx hb dJ11_init_2_56 ?_
      refine g_put hx hb hts S.2.2.2.1 hK hP hD hS in_X7 tyX7 tyX7_ok nmX7 0 rfl rfl 2 (by decide) q740 (fun _ h9 => h9) rfl (v := .null) rfl rfl rfl (Nat.le_of_ble_eq_true rfl) (w' := [(o, .inr (7, [.null, .null, .null, .null, .null, .int (0 : Int32), .int (0 : Int32), .int (0 : Int32)]))]) rfl dJ11_init_2_57 ?_
      clear hP hD hS
      intro H locs hP hD hS
      refine W.widen (k := 0) (n := 0) (Nat.le_of_ble_eq_true rfl) (Nat.le_of_ble_eq_true rfl) ?_
      exact hret0 (fun _ => 0) trivial _ _ _ _ dJ11_init_2_60 hP hD hS
  · refine va_gets hx hb hsi hS S.2.2.2.1 (hts _ q704) (fun _ h9 => h9) dJ11_init_2_10 ?_
    refine g_put hx hb hts S.2.2.2.1 hK hP hD hS in_X7 tyX7 tyX7_ok nmX7 0 rfl rfl 1 (by decide) q739 (fun _ h9 => h9) rfl (v := .ref ts_1) rfl rfl rfl (Nat.le_of_ble_eq_true rfl) (w' := [(o, .inr (7, [.ref o, .ref ts_1, .null, .null, .null, .int (0 : Int32), .int (0 : Int32), .int (0 : Int32)]))]) rfl dJ11_init_2_13 ?_
    clear hP hD hS
    intro H locs hP hD hS
    refine lv_aload_n hx hb dJ11_init_2_16 rfl (lv_at hl 0 rfl) ?_
    rcases hZ.2.2.1 with hsi | ⟨ts_2, hsi⟩
    · refine va_gets hx hb hsi hS S.2.2.2.1 (hts _ q706) (fun _ h9 => h9) dJ11_init_2_17 ?_
      refine g_put hx hb hts S.2.2.2.1 hK hP hD hS in_X7 tyX7 tyX7_ok nmX7 0 rfl rfl 2 (by decide) q740 (fun _ h9 => h9) rfl (v := .null) rfl rfl rfl (Nat.le_of_ble_eq_true rfl) (w' := [(o, .inr (7, [.ref o, .ref ts_1, .null, .null, .null, .int (0 : Int32), .int (0 : Int32), .int (0 : Int32)]))]) rfl dJ11_init_2_20 ?_
      clear hP hD hS
      intro H locs hP hD hS
      refine lv_iload hx hb dJ11_init_2_23 (lv_at hl 4 rfl) ?_
      refine lv_if_eq (tgt := 36) hx hb dJ11_init_2_25 (by decide) (fun hc => ?_) (fun hc => absurd (by decide) hc)
      clear hc
      refine lv_aload_n hx hb dJ11_init_2_36 rfl (lv_at hl 0 rfl) ?_
      refine lv_null hx hb dJ11_init_2_37 ?_
      refine g_put hx hb hts S.2.2.2.1 hK hP hD hS in_X7 tyX7 tyX7_ok nmX7 0 rfl rfl 1 (by decide) q739 (fun _ h9 => h9) rfl (v := .null) rfl rfl rfl (Nat.le_of_ble_eq_true rfl) (w' := [(o, .inr (7, [.ref o, .null, .null, .null, .null, .int (0 : Int32), .int (0 : Int32), .int (0 : Int32)]))]) rfl dJ11_init_2_38 ?_
      clear hP hD hS
      intro H locs hP hD hS
      refine lv_aload_n hx hb dJ11_init_2_41 rfl (lv_at hl 0 rfl) ?_
      refine lv_aload_nN hx hb dJ11_init_2_42 rfl (lv_at hl 1 rfl) ?_
      refine g_put hx hb hts S.2.2.2.1 hK hP hD hS in_X7 tyX7 tyX7_ok nmX7 0 rfl rfl 3 (by decide) q737 (fun _ h9 => h9) rfl (v := .null) rfl rfl rfl (Nat.le_of_ble_eq_true rfl) (w' := [(o, .inr (7, [.ref o, .null, .null, .null, .null, .int (0 : Int32), .int (0 : Int32), .int (0 : Int32)]))]) rfl dJ11_init_2_43 ?_
      clear hP hD hS
      intro H locs hP hD hS
      refine lv_aload_n hx hb dJ11_init_2_46 rfl (lv_at hl 0 rfl) ?_
      refine lv_aload_nN hx hb dJ11_init_2_47 rfl (lv_at hl 2 rfl) ?_
      refine g_put hx hb hts S.2.2.2.1 hK hP hD hS in_X7 tyX7 tyX7_ok nmX7 0 rfl rfl 0 (by decide) q738 (fun _ h9 => h9) rfl (v := .null) rfl rfl rfl (Nat.le_of_ble_eq_true rfl) (w' := [(o, .inr (7, [.null, .null, .null, .null, .null, .int (0 : Int32), .int (0 : Int32), .int (0 : Int32)]))]) rfl dJ11_init_2_48 ?_
      clear hP hD hS
      intro H locs hP hD hS
      refine lv_iload_n hx hb dJ11_init_2_51 rfl (lv_at hl 3 rfl) ?_
      refine lv_if_ne (tgt := 60) hx hb dJ11_init_2_52 (by decide) (fun hc => absurd hc (by decide)) (fun hc => ?_)
      clear hc
      refine lv_aload_n hx hb dJ11_init_2_55 rfl (lv_at hl 0 rfl) ?_
      refine lv_null hx hb dJ11_init_2_56 ?_
      refine g_put hx hb hts S.2.2.2.1 hK hP hD hS in_X7 tyX7 tyX7_ok nmX7 0 rfl rfl 2 (by decide) q740 (fun _ h9 => h9) rfl (v := .null) rfl rfl rfl (Nat.le_of_ble_eq_true rfl) (w' := [(o, .inr (7, [.null, .null, .null, .null, .null, .int (0 : Int32), .int (0 : Int32), .int (0 : Int32)]))]) rfl dJ11_init_2_57 ?_
      clear hP hD hS
      intro H locs hP hD hS
      refine W.widen (k := 0) (n := 0) (Nat.le_of_ble_eq_true rfl) (Nat.le_of_ble_eq_true rfl) ?_
      exact hret0 (fun _ => 0) trivial _ _ _ _ dJ11_init_2_60 hP hD hS
    · refine va_gets hx hb hsi hS S.2.2.2.1 (hts _ q706) (fun _ h9 => h9) dJ11_init_2_17 ?_
      refine g_put hx hb hts S.2.2.2.1 hK hP hD hS in_X7 tyX7 tyX7_ok nmX7 0 rfl rfl 2 (by decide) q740 (fun _ h9 => h9) rfl (v := .ref ts_2) rfl rfl rfl (Nat.le_of_ble_eq_true rfl) (w' := [(o, .inr (7, [.ref o, .ref ts_1, .ref ts_2, .null, .null, .int (0 : Int32), .int (0 : Int32), .int (0 : Int32)]))]) rfl dJ11_init_2_20 ?_
      clear hP hD hS
      intro H locs hP hD hS
      refine lv_iload hx hb dJ11_init_2_23 (lv_at hl 4 rfl) ?_
      refine lv_if_eq (tgt := 36) hx hb dJ11_init_2_25 (by decide) (fun hc => ?_) (fun hc => absurd (by decide) hc)
      clear hc
      refine lv_aload_n hx hb dJ11_init_2_36 rfl (lv_at hl 0 rfl) ?_
      refine lv_null hx hb dJ11_init_2_37 ?_
      refine g_put hx hb hts S.2.2.2.1 hK hP hD hS in_X7 tyX7 tyX7_ok nmX7 0 rfl rfl 1 (by decide) q739 (fun _ h9 => h9) rfl (v := .null) rfl rfl rfl (Nat.le_of_ble_eq_true rfl) (w' := [(o, .inr (7, [.ref o, .null, .ref ts_2, .null, .null, .int (0 : Int32), .int (0 : Int32), .int (0 : Int32)]))]) rfl dJ11_init_2_38 ?_
      clear hP hD hS
      intro H locs hP hD hS
      refine lv_aload_n hx hb dJ11_init_2_41 rfl (lv_at hl 0 rfl) ?_
      refine lv_aload_nN hx hb dJ11_init_2_42 rfl (lv_at hl 1 rfl) ?_
      refine g_put hx hb hts S.2.2.2.1 hK hP hD hS in_X7 tyX7 tyX7_ok nmX7 0 rfl rfl 3 (by decide) q737 (fun _ h9 => h9) rfl (v := .null) rfl rfl rfl (Nat.le_of_ble_eq_true rfl) (w' := [(o, .inr (7, [.ref o, .null, .ref ts_2, .null, .null, .int (0 : Int32), .int (0 : Int32), .int (0 : Int32)]))]) rfl dJ11_init_2_43 ?_
      clear hP hD hS
      intro H locs hP hD hS
      refine lv_aload_n hx hb dJ11_init_2_46 rfl (lv_at hl 0 rfl) ?_
      refine lv_aload_nN hx hb dJ11_init_2_47 rfl (lv_at hl 2 rfl) ?_
      refine g_put hx hb hts S.2.2.2.1 hK hP hD hS in_X7 tyX7 tyX7_ok nmX7 0 rfl rfl 0 (by decide) q738 (fun _ h9 => h9) rfl (v := .null) rfl rfl rfl (Nat.le_of_ble_eq_true rfl) (w' := [(o, .inr (7, [.null, .null, .ref ts_2, .null, .null, .int (0 : Int32), .int (0 : Int32), .int (0 : Int32)]))]) rfl dJ11_init_2_48 ?_
      clear hP hD hS
      intro H locs hP hD hS
      refine lv_iload_n hx hb dJ11_init_2_51 rfl (lv_at hl 3 rfl) ?_
      refine lv_if_ne (tgt := 60) hx hb dJ11_init_2_52 (by decide) (fun hc => absurd hc (by decide)) (fun hc => ?_)
      clear hc
      refine lv_aload_n hx hb dJ11_init_2_55 rfl (lv_at hl 0 rfl) ?_
      refine lv_null hx hb dJ11_init_2_56 ?_
      refine g_put hx hb hts S.2.2.2.1 hK hP hD hS in_X7 tyX7 tyX7_ok nmX7 0 rfl rfl 2 (by decide) q740 (fun _ h9 => h9) rfl (v := .null) rfl rfl rfl (Nat.le_of_ble_eq_true rfl) (w' := [(o, .inr (7, [.null, .null, .null, .null, .null, .int (0 : Int32), .int (0 : Int32), .int (0 : Int32)]))]) rfl dJ11_init_2_57 ?_
      clear hP hD hS
      intro H locs hP hD hS
      refine W.widen (k := 0) (n := 0) (Nat.le_of_ble_eq_true rfl) (Nat.le_of_ble_eq_true rfl) ?_
      exact hret0 (fun _ => 0) trivial _ _ _ _ dJ11_init_2_60 hP hD hS
set_option maxHeartbeats 4000000 in
set_option maxRecDepth 100000 in
theorem tJ12_init_X7n (l : Launch) (D : va_G) (d : Nat → ClassId) (z : ZT) (o : Nat) : CVS l yJ12_init (ws_ yJ12_init cJ12_init 5 (Option.none : Option Jvm.ClassFile.FieldType)) (rmc 2 0 0 36) D d z [.ref o, .null, .null, .int (0 : Int32), .int (0 : Int32)] ([(o, .inr (7, [.null, .null, .null, .null, .null, .int (0 : Int32), .int (0 : Int32), .int (0 : Int32)]))]) (fun u : UU => [(o, .inr (7, [.null, .null, .null, .null, .null, .int (0 : Int32), .int (0 : Int32), .int (0 : Int32)]))]) (fun _ => True) := by
  refine CVS.of (rt := .int) (own := RJ12) rfl (by decide) (Nat.le_of_ble_eq_true rfl) ?_
  intro p e s m args below meth c A Q ls S hin hK hP hD hZ hS hA hl hret0
  have hx := S.1
  have hb := S.2.1
  have hts := S.2.2.2.2
  have hl : lv_has ls 5 [(0, .ref o), (1, .null), (2, .null), (3, .int (0 : Int32)), (4, .int (0 : Int32))] := hl
  refine lv_aload_n hx hb dJ12_init_0 rfl (lv_at hl 0 rfl) ?_
  refine lv_aload_nN hx hb dJ12_init_1 rfl (lv_at hl 1 rfl) ?_
  refine lv_aload_nN hx hb dJ12_init_2 rfl (lv_at hl 2 rfl) ?_
  refine lv_iload_n hx hb dJ12_init_3 rfl (lv_at hl 3 rfl) ?_
  refine lv_iload hx hb dJ12_init_4 (lv_at hl 4 rfl) ?_
  refine run_vS0 (wr := []) (w' := fun u : UU => [(o, .inr (7, [.null, .null, .null, .null, .null, .int (0 : Int32), .int (0 : Int32), .int (0 : Int32)]))]) (va_runI (As := [.null, .null, .int (0 : Int32), .int (0 : Int32)]) (rest := []) S (tJ11_init_2_X7n l D d z o _) (cwI 4 hts (lw_meth q731) rfl rfl rfl (hts _ q113) (hts _ q729) (hts _ q730) rfl (by decide +kernel) ⟨(Nat.le_of_ble_eq_true rfl), (Nat.le_of_ble_eq_true rfl)⟩) ⟨Pw.blind, fun U hU hW => Pw.cut (tl := []) hK (by rw [List.append_nil]; exact hP) (by rw [List.append_nil]; exact hD) hZ hS hA [0] rfl rfl hU hW⟩ rfl rfl hl.1 rfl (lv_room (Nat.le_of_ble_eq_true rfl)) dJ12_init_6 ⟨(Nat.le_of_ble_eq_true rfl), (Nat.le_of_ble_eq_true rfl)⟩) hP hD hS hA [0] [] [0] rfl rfl rfl rfl (by decide) rfl (fun _ => rfl) ?_
  clear hP hD hS
  intro u_1 _ H locs hP hD hS
  refine W.widen (k := 0) (n := 0) (Nat.le_of_ble_eq_true rfl) (Nat.le_of_ble_eq_true rfl) ?_
  exact hret0 (fun _ => 0) trivial _ _ _ _ dJ12_init_9 hP hD hS
set_option maxHeartbeats 4000000 in
set_option maxRecDepth 100000 in
theorem tX7_initn (l : Launch) (D : va_G) (d : Nat → ClassId) (z : ZT) (o : Nat) (p0 : Int32) (p1 : Int32) : CVS l yX7_init (ws_ yX7_init cX7_init 3 (Option.none : Option Jvm.ClassFile.FieldType)) (rmc 3 0 0 60) D d z [.ref o, .int p0, .int p1] ([(o, .inr (7, [.null, .null, .null, .null, .null, .int (0 : Int32), .int (0 : Int32), .int (0 : Int32)]))]) (fun u : UU => [(o, .inr (7, [.null, .null, .null, .null, .null, .int (0 : Int32), .int p0, .int p1]))]) (fun _ => True) := by
  refine CVS.of (rt := .int) (own := RX7) rfl (by decide) (Nat.le_of_ble_eq_true rfl) ?_
  intro p e s m args below meth c A Q ls S hin hK hP hD hZ hS hA hl hret0
  have hx := S.1
  have hb := S.2.1
  have hts := S.2.2.2.2
  have hl : lv_has ls 3 [(0, .ref o), (1, .int p0), (2, .int p1)] := hl
  refine lv_aload_n hx hb dX7_init_0 rfl (lv_at hl 0 rfl) ?_
  refine lv_null hx hb dX7_init_1 ?_
  refine lv_null hx hb dX7_init_2 ?_
  refine lv_iconst (v := 0) hx hb dX7_init_3 (by decide) ?_
  refine lv_iconst (v := 0) hx hb dX7_init_4 (by decide) ?_
  refine run_vS0 (wr := []) (w' := fun u : UU => [(o, .inr (7, [.null, .null, .null, .null, .null, .int (0 : Int32), .int (0 : Int32), .int (0 : Int32)]))]) (va_runI (As := [.null, .null, .int (0 : Int32), .int (0 : Int32)]) (rest := []) S (tJ12_init_X7n l D d z o _) (cwI 4 hts (lw_meth q728) rfl rfl rfl (hts _ q114) (hts _ q726) (hts _ q727) rfl (by decide +kernel) ⟨(Nat.le_of_ble_eq_true rfl), (Nat.le_of_ble_eq_true rfl)⟩) ⟨Pw.blind, fun U hU hW => Pw.cut (tl := []) hK (by rw [List.append_nil]; exact hP) (by rw [List.append_nil]; exact hD) hZ hS hA [0] rfl rfl hU hW⟩ rfl rfl hl.1 rfl (lv_room (Nat.le_of_ble_eq_true rfl)) dX7_init_5 ⟨(Nat.le_of_ble_eq_true rfl), (Nat.le_of_ble_eq_true rfl)⟩) hP hD hS hA [0] [] [0] rfl rfl rfl rfl (by decide) rfl (fun _ => rfl) ?_
  clear hP hD hS
  intro u_1 _ H locs hP hD hS
  refine lv_aload_n hx hb dX7_init_8 rfl (lv_at hl 0 rfl) ?_
  refine lv_iload_n hx hb dX7_init_9 rfl (lv_at hl 1 rfl) ?_
  refine g_putF hx hb hts S.2.2.2.1 hK hP hD hS in_X7 tyX7 tyX7_ok nmX7 0 rfl rfl 6 (by decide) q732 (fun _ h9 => h9) rfl hin rfl (v := .int p0) rfl rfl rfl (Nat.le_of_ble_eq_true rfl) (w' := [(o, .inr (7, [.null, .null, .null, .null, .null, .int (0 : Int32), .int p0, .int (0 : Int32)]))]) rfl dX7_init_10 ?_
  clear hP hD hS
  intro H locs hP hD hS
  refine lv_aload_n hx hb dX7_init_13 rfl (lv_at hl 0 rfl) ?_
  refine lv_iload_n hx hb dX7_init_14 rfl (lv_at hl 2 rfl) ?_
  refine g_putF hx hb hts S.2.2.2.1 hK hP hD hS in_X7 tyX7 tyX7_ok nmX7 0 rfl rfl 7 (by decide) q734 (fun _ h9 => h9) rfl hin rfl (v := .int p1) rfl rfl rfl (Nat.le_of_ble_eq_true rfl) (w' := [(o, .inr (7, [.null, .null, .null, .null, .null, .int (0 : Int32), .int p0, .int p1]))]) rfl dX7_init_15 ?_
  clear hP hD hS
  intro H locs hP hD hS
  refine W.widen (k := 0) (n := 0) (Nat.le_of_ble_eq_true rfl) (Nat.le_of_ble_eq_true rfl) ?_
  exact hret0 (fun _ => 0) trivial _ _ _ _ dX7_init_18 hP hD hS
