/-! what throws, what catches -/
set_option maxRecDepth 100000
set_option maxHeartbeats 4000000
section XATH
variable {p : Program} {l : Launch} {e : Env} {R : Room} {s : State} {m : MethodId} {args : Array Value} {below : List Frame} {meth : Method} {c : Code} {H : Heap} {locs : List Loc} {cells slots : Nat} {Q : State → Prop} {ls : Array Slot} {rest : List Value}
/-- 'throw x' of an object that was made before -/
theorem vx_athrow {cc : ByteArray} {pc : Nat} (hexec : p.tables.exec = Jvm.exec) (hb : c.code = cc) {q : Addr} (hdg : decode cc pc = .ok (.athrow, 1)) (k : vx_W p l e R s m args below meth c H locs cells slots Q (F0 m pc ls rest) q) : W p l e R s m args below meth c H locs cells slots Q (F0 m pc ls (.ref q :: rest)) := by
  intro T hT X
  obtain ⟨t, st, hq⟩ := k T hT X
  refine ⟨t, ?_, hq⟩
  have hdg' : decode c.code pc = .ok (.athrow, 1) := by rw [hb]; exact hdg
  jvm_step X.here [X.here.top, hexec, hdg', athrow.wp_sem]
  exact st
end XATH
def fX9_isEnd (K : Nat) (p0 : Int32) : Option Bool :=
  if p0 = 0 then
    some true
  else
    if p0 = (63 : Int32) then
      some true
    else
      some false
set_option maxHeartbeats 4000000 in
set_option maxRecDepth 100000 in
theorem tX9_isEnd (l : Launch) (D : va_G) (d : Nat → ClassId) (z : ZT) (K : Nat) (o : Nat) (p0 : Int32) (r : Bool) (hf : fX9_isEnd K p0 = some r) : CI l yX9_isEnd (ws_ yX9_isEnd cX9_isEnd 2 (Option.some Jvm.ClassFile.FieldType.boolean)) (rmc 0 0 0 0) D d z [.ref o, .int p0] ([]) (bi r) ([]) := by
  refine CI.of2 (own := RX9) rfl (by decide) (Nat.le_of_ble_eq_true rfl) (bi_nar r) ?_
  intro p e s m args below meth c A Q ls S hin hK hP hD hZ hS hA hl hret0
  have hret : ∀ (x : Bool) (H : Heap) (locs : List Loc) (pc : Nat) (ls' : Array Slot), some x = some r → decode cX9_isEnd pc = .ok (.ireturn, 1) → va_P D CL ([]) H → va_D A ([]) → va_S A s.heap H locs → W p l e (rmc 0 0 0 0) s m args below meth c H locs 0 0 Q (F0 m pc ls' [.int (bi x)]) := by
    intro x H locs pc ls' h9 hdg hP hD hS
    obtain rfl := so_1 h9
    exact hret0 H locs pc ls' hdg hP hD hS
  have hx := S.1
  have hb := S.2.1
  have hts := S.2.2.2.2
  have hl : lv_has ls 2 [(0, .ref o), (1, .int p0)] := hl
  unfold fX9_isEnd at hf
  refine lv_iload_n hx hb dX9_isEnd_0 rfl (lv_at hl 1 rfl) ?_
  refine lv_if_eq (tgt := 10) hx hb dX9_isEnd_1 (by decide) (fun c_1 => ?_) (fun c_1 => ?_)
  · replace hf := it_t hf c_1
    clear c_1
    refine lv_iconst (v := 1) hx hb dX9_isEnd_10 (by decide) ?_
    refine lv_goto (tgt := 15) hx hb dX9_isEnd_11 (by decide) ?_
    refine W.widen (k := 0) (n := 0) (Nat.le_of_ble_eq_true rfl) (Nat.le_of_ble_eq_true rfl) ?_
    exact hret _ _ _ _ _ hf dX9_isEnd_15 hP hD hS
  · replace hf := it_f hf c_1
    clear c_1
    refine lv_iload_n hx hb dX9_isEnd_4 rfl (lv_at hl 1 rfl) ?_
    refine lv_bipush (v := 63) hx hb dX9_isEnd_5 (by decide) ?_
    refine lv_icmp_ne (tgt := 14) hx hb dX9_isEnd_7 (by decide) (fun c_2 => ?_) (fun c_2 => ?_)
    · replace hf := it_f hf c_2
      clear c_2
      refine lv_iconst (v := 0) hx hb dX9_isEnd_14 (by decide) ?_
      refine W.widen (k := 0) (n := 0) (Nat.le_of_ble_eq_true rfl) (Nat.le_of_ble_eq_true rfl) ?_
      exact hret _ _ _ _ _ hf dX9_isEnd_15 hP hD hS
    · replace hf := it_t hf c_2
      clear c_2
      refine lv_iconst (v := 1) hx hb dX9_isEnd_10 (by decide) ?_
      refine lv_goto (tgt := 15) hx hb dX9_isEnd_11 (by decide) ?_
      refine W.widen (k := 0) (n := 0) (Nat.le_of_ble_eq_true rfl) (Nat.le_of_ble_eq_true rfl) ?_
      exact hret _ _ _ _ _ hf dX9_isEnd_15 hP hD hS
noncomputable def fX9_checkSwr (K : Nat) (d : Nat → ClassId) (t : (Int32 × Int32 × Int32)) (u : UU) (μ : XT) : Option (XR Unit XT) :=
  if (μ.1.1 45) < (μ.1.1 90) then
    b1 (fX9_isEnd K t.2.1) fun r_3 =>
    if r_3 = true then
      ask u fun q_5 u =>
      b1 (fX9_isEnd K t.2.1) fun r_7 =>
      if r_7 = true then
        nm ((μ.1, [(q_5, .inr (10, [.int t.2.1, .null, .null, .null, .null, .null, .int (0 : Int32)]))] ++ μ.2)) fun ζ_12 =>
        some (.inl (10, q_5, ζ_12))
      else
        nm ((μ.1, [(q_5, .inr (10, [.int t.2.2, .null, .null, .null, .null, .null, .int (0 : Int32)]))] ++ μ.2)) fun ζ_10 =>
        some (.inl (10, q_5, ζ_10))
    else
      b1 (fX9_isEnd K t.2.2) fun r_14 =>
      if r_14 = true then
        ask u fun q_19 u =>
        b1 (fX9_isEnd K t.2.1) fun r_21 =>
        if r_21 = true then
          nm ((μ.1, [(q_19, .inr (10, [.int t.2.1, .null, .null, .null, .null, .null, .int (0 : Int32)]))] ++ μ.2)) fun ζ_26 =>
          some (.inl (10, q_19, ζ_26))
        else
          nm ((μ.1, [(q_19, .inr (10, [.int t.2.2, .null, .null, .null, .null, .null, .int (0 : Int32)]))] ++ μ.2)) fun ζ_24 =>
          some (.inl (10, q_19, ζ_24))
      else
        ask u fun q_16 u =>
        nm ((μ.1, [(q_16, .inr (11, [.int (μ.1.1 90), .null, .null, .null, .null, .null, .int (0 : Int32)]))] ++ μ.2)) fun ζ_18 =>
        some (.inl (11, q_16, ζ_18))
  else
    some (.inr ((), μ))
set_option maxHeartbeats 4000000 in
set_option maxRecDepth 100000 in
theorem tX9_checkSwr (l : Launch) (D : va_G) (d : Nat → ClassId) (z : ZT) (b : Nat → Nat) (K : Nat) (o : Nat) (on : Nat) (t : (Int32 × Int32 × Int32)) (μ : XT) (y : UU → XR Unit XT) (hf : ∀ u, fX9_checkSwr K d t u μ = some (y u)) : CVXM l yX9_checkSwr (ws_ yX9_checkSwr cX9_checkSwr 1 (Option.none : Option Jvm.ClassFile.FieldType)) (rmc 5 1 7 104) D d z [.ref o] ((XW d z b μ.1 ++ [(o, .inr (9, [.ref on, .int (μ.1.1 90), .int (μ.1.1 91), .ref (b 0)])), (on, .inr (3, [.int t.1, .int t.2.1, .int t.2.2]))]) ++ μ.2) (fun u : UU × XT => (XW d z b u.2.1 ++ [(o, .inr (9, [.ref on, .int (u.2.1.1 90), .int (u.2.1.1 91), .ref (b 0)])), (on, .inr (3, [.int t.1, .int t.2.1, .int t.2.2]))]) ++ u.2.2) (fun u => y u.1 = .inr ((), u.2)) (fun u : UU × Nat × Nat × XT => (u.2.1, u.2.2.1)) (fun u => (XW d z b u.2.2.2.1 ++ [(o, .inr (9, [.ref on, .int (u.2.2.2.1.1 90), .int (u.2.2.2.1.1 91), .ref (b 0)])), (on, .inr (3, [.int t.1, .int t.2.1, .int t.2.2]))]) ++ u.2.2.2.2) (fun u => y u.1 = .inl u.2) μ.2 (fun u => u.2.2) (fun u => u.2.2.2.2) := by
  refine CVXM.of (own := RX9) rfl (by decide) (Nat.le_of_ble_eq_true rfl) ?_
  intro p e s m args below meth c A Q ls S hin hK hP hD hZ hS hA hl hret0 hthr0
  have hret : ∀ (U0 : UU) (x : Unit) (μx : XT) (H : Heap) (locs : List Loc) (pc : Nat) (ls' : Array Slot), some (Sum.inr (x, μx)) = some (y U0) → decode cX9_checkSwr pc = .ok (.return_, 1) → va_P D CL ((XW d z b μx.1 ++ [(o, .inr (9, [.ref on, .int (μx.1.1 90), .int (μx.1.1 91), .ref (b 0)])), (on, .inr (3, [.int t.1, .int t.2.1, .int t.2.2]))]) ++ μx.2) H → va_D A ((XW d z b μx.1 ++ [(o, .inr (9, [.ref on, .int (μx.1.1 90), .int (μx.1.1 91), .ref (b 0)])), (on, .inr (3, [.int t.1, .int t.2.1, .int t.2.2]))]) ++ μx.2) → va_S A s.heap H locs → MN μ.2 μx.2 H → W p l e (rmc 5 1 7 104) s m args below meth c H locs 1 7 Q (F0 m pc ls' []) := by
    intro U0 x μx H locs pc ls' h9 hdg hP hD hS hN
    exact hret0 (U0, μx) (Option.some.inj h9).symm H locs pc ls' hdg hP hD hS hN
  have hthr : ∀ (U0 : UU) (c9 q9 : Nat) (μx : XT) (H : Heap) (locs : List Loc) (pc : Nat) (ls' : Array Slot) (st' : List Value), some (Sum.inl (c9, q9, μx)) = some (y U0) → va_P D CL ((XW d z b μx.1 ++ [(o, .inr (9, [.ref on, .int (μx.1.1 90), .int (μx.1.1 91), .ref (b 0)])), (on, .inr (3, [.int t.1, .int t.2.1, .int t.2.2]))]) ++ μx.2) H → va_D A ((XW d z b μx.1 ++ [(o, .inr (9, [.ref on, .int (μx.1.1 90), .int (μx.1.1 91), .ref (b 0)])), (on, .inr (3, [.int t.1, .int t.2.1, .int t.2.2]))]) ++ μx.2) → va_S A s.heap H locs → MN μ.2 μx.2 H → (∃ fs, (q9, (.inr (c9, fs) : va_E)) ∈ (XW d z b μx.1 ++ [(o, .inr (9, [.ref on, .int (μx.1.1 90), .int (μx.1.1 91), .ref (b 0)])), (on, .inr (3, [.int t.1, .int t.2.1, .int t.2.2]))]) ++ μx.2) → vx_W p l e (rmc 5 1 7 104) s m args below meth c H locs 1 7 Q (F0 m pc ls' st') q9 := by
    intro U0 c9 q9 μx H locs pc ls' st' h9 hP hD hS hN hm
    exact hthr0 (U0, c9, q9, μx) (Option.some.inj h9).symm H locs pc ls' st' hP hD hS hN hm
  have hx := S.1
  have hb := S.2.1
  have hts := S.2.2.2.2
  have hl : lv_has ls 1 [(0, .ref o)] := hl
  unfold fX9_checkSwr at hf
  have hN : MN μ.2 μ.2 s.heap := MN.rf
  refine lv_aload_n hx hb dX9_checkSwr_0 rfl (lv_at hl 0 rfl) ?_
  refine g_get hx hb hts S.2.2.2.1 hK hP in_X9 20 rfl rfl 1 (by decide) q1275 (fun _ h9 => h9) (v := .int (μ.1.1 90)) rfl dX9_checkSwr_1 ?_
  refine lv_aload_n hx hb dX9_checkSwr_4 rfl (lv_at hl 0 rfl) ?_
  refine g_get hx hb hts S.2.2.2.1 hK hP in_X9 20 rfl rfl 3 (by decide) q1279 (fun _ h9 => h9) (v := .ref (b 0)) rfl dX9_checkSwr_5 ?_
  refine g_getN hx hb hts S.2.2.2.1 hK hP in_X0 0 rfl rfl 7 (by decide) q290 (fun _ h9 => h9) (v := .ref (b 7)) rfl dX9_checkSwr_8 ?_
  refine g_getN hx hb hts S.2.2.2.1 hK hP in_X6 7 rfl rfl 5 (by decide) q362 (fun _ h9 => h9) (v := .int (μ.1.1 45)) rfl dX9_checkSwr_11 ?_
  refine lv_icmp_gt (tgt := 18) hx hb dX9_checkSwr_14 (by decide) (fun c_1 => ?_) (fun c_1 => ?_)
  · replace hf := itU_t hf c_1
    clear c_1
    refine lv_aload_n hx hb dX9_checkSwr_18 rfl (lv_at hl 0 rfl) ?_
    refine lv_aload_n hx hb dX9_checkSwr_19 rfl (lv_at hl 0 rfl) ?_
    refine g_get hx hb hts S.2.2.2.1 hK hP in_X9 20 rfl rfl 0 (by decide) q1273 (fun _ h9 => h9) (v := .ref on) rfl dX9_checkSwr_20 ?_
    refine g_getN hx hb hts S.2.2.2.1 hK hP in_X2 21 rfl rfl 1 (by decide) q187 (fun _ h9 => h9) (v := .int t.2.1) rfl dX9_checkSwr_23 ?_
    obtain ⟨r_3, h_2, hf⟩ := b1U hf
    refine run_iM (w := (XW d z b μ.1 ++ [(o, .inr (9, [.ref on, .int (μ.1.1 90), .int (μ.1.1 91), .ref (b 0)])), (on, .inr (3, [.int t.1, .int t.2.1, .int t.2.2]))])) (tl := μ.2) (wr := [(b 0, .inr (1, [.ref (b 1), .int (μ.1.1 1), .int (μ.1.1 2), .ref (b 2), .ref (b 3), .ref (b 4), va_rf (μ.1.2.2.2.2 6 0), .ref (b 7), .ref (b 13), .ref (b 16), .int (μ.1.1 10)])), (b 1, .inl (d 2, 500, .inl (μ.1.2.2.1 1))), (b 2, .inl (d 5, 2, .inr (.inr (.inr (.inr (fun j => some (z.2.2 j))))))), (b 3, .inl (d 6, 5, .inr (.inr (.inr (.inr (fun j => some (z.2.2 (2 + j)))))))), (b 4, .inr (4, [.int (μ.1.1 20), .long (μ.1.2.1 21), .long (μ.1.2.1 22), .long (μ.1.2.1 23), .ref (b 5), .ref (b 6), .ref (b 0)])), (b 5, .inr (2, [.long (μ.1.2.1 30), .long (μ.1.2.1 31)])), (b 6, .inr (2, [.long (μ.1.2.1 32), .long (μ.1.2.1 33)])), (b 7, .inr (6, [.int (μ.1.1 40), .int (μ.1.1 41), .int (μ.1.1 42), .int (μ.1.1 43), .int (μ.1.1 44), .int (μ.1.1 45), .ref (b 8), .ref (b 9), .ref (b 10), .int (μ.1.1 49), .ref (b 11), .ref (b 12), .int (μ.1.1 52)])), (b 8, .inl (d 0, 16, .inl (μ.1.2.2.1 46))), (b 9, .inl (d 1, 16, .inr (.inl (μ.1.2.2.2.1 47)))), (b 10, .inl (d 1, 16, .inr (.inl (μ.1.2.2.2.1 48)))), (b 11, .inl (d 0, 8, .inl (μ.1.2.2.1 50))), (b 12, .inl (d 0, 8, .inl (μ.1.2.2.1 51))), (b 13, .inr (8, [.int (μ.1.1 60), .int (μ.1.1 61), .int (μ.1.1 62), .int (μ.1.1 63), .ref (b 14), .ref (b 15), .int (μ.1.1 66), .ref (b 17)])), (b 14, .inl (d 0, 100, .inl (μ.1.2.2.1 64))), (b 15, .inl (d 3, 100, .inl (μ.1.2.2.1 65))), (b 17, .inr (18, [.int (μ.1.1 70), .ref (b 18), .int (μ.1.1 72)])), (b 18, .inl (d 4, 16, .inr (.inr (.inr (.inr (μ.1.2.2.2.2 18)))))), (b 16, .inr (17, [.ref (b 19), .int (μ.1.1 81), .int (μ.1.1 82)])), (b 19, .inl (d 4, 17, .inr (.inr (.inr (.inr (μ.1.2.2.2.2 19)))))), (o, .inr (9, [.ref on, .int (μ.1.1 90), .int (μ.1.1 91), .ref (b 0)])), (on, .inr (3, [.int t.1, .int t.2.1, .int t.2.2]))]) (w' := (XW d z b μ.1 ++ [(o, .inr (9, [.ref on, .int (μ.1.1 90), .int (μ.1.1 91), .ref (b 0)])), (on, .inr (3, [.int t.1, .int t.2.1, .int t.2.2]))])) (va_runV (As := [.int t.2.1]) (rest := []) S (keI (tX9_isEnd l D d z K o t.2.1 r_3 h_2 _) s.heap) (cwV 1 hts (lw_V q1299 q1301 qs39 q121 q1302) rfl rfl rfl (by decide +kernel) ⟨(Nat.le_of_ble_eq_true rfl), (Nat.le_of_ble_eq_true rfl)⟩) ⟨kbl Pw.blind, (va_recv hK.1 hP (ci := 9) (q0 := 20) rfl rfl), fun U hU hW => ⟨Pw.cut (w := (XW d z b μ.1 ++ [(o, .inr (9, [.ref on, .int (μ.1.1 90), .int (μ.1.1 91), .ref (b 0)])), (on, .inr (3, [.int t.1, .int t.2.1, .int t.2.2]))])) (tl := μ.2) hK hP hD hZ hS hA [] rfl rfl hU hW, hU⟩⟩ rfl rfl hl.1 rfl (lv_room (Nat.le_of_ble_eq_true rfl)) dX9_checkSwr_26 ⟨(Nat.le_of_ble_eq_true rfl), (Nat.le_of_ble_eq_true rfl)⟩) hP hD hS hA [] [0, 1, 2, 3, 4, 5, 6, 7, 8, 9, 10, 11, 12, 13, 14, 15, 16, 17, 18, 19, 20, 21] [0, 1, 2, 3, 4, 5, 6, 7, 8, 9, 10, 11, 12, 13, 14, 15, 16, 17, 18, 19, 20, 21] rfl rfl rfl rfl (by decide) rfl rfl ?_
    clear hP hD hS
    intro H locs hP hD hS hk
    replace hN := hN.keep hk
    clear hk
    clear h_2
    refine lv_if_ne (tgt := 46) hx hb dX9_checkSwr_29 (by decide) (fun c_4 => ?_) (fun c_4 => ?_)
    · replace hf := itU_t hf (bi_n0 c_4)
      clear c_4
      refine g_newTM (w := (XW d z b μ.1 ++ [(o, .inr (9, [.ref on, .int (μ.1.1 90), .int (μ.1.1 91), .ref (b 0)])), (on, .inr (3, [.int t.1, .int t.2.1, .int t.2.2]))])) (tl := μ.2) hx hb hts S.2.2.2.1 hK hP hD hS hA (ci := 10) in_X11 tyX11 tyX11_ok q1293 q1303 q123 rfl (fs := [.int (0 : Int32), .null, .null, .null, .null, .null, .int (0 : Int32)]) (fun j hj => by rcases (show j = 0 ∨ j = 1 ∨ j = 2 ∨ j = 3 ∨ j = 4 ∨ j = 5 ∨ j = 6 by omega) with rfl | rfl | rfl | rfl | rfl | rfl | rfl <;> rfl) (Nat.le_of_ble_eq_true rfl) (Nat.le_of_ble_eq_true rfl) (w1 := fun q => (XW d z b μ.1 ++ [(o, .inr (9, [.ref on, .int (μ.1.1 90), .int (μ.1.1 91), .ref (b 0)])), (on, .inr (3, [.int t.1, .int t.2.1, .int t.2.2])), (q, .inr (10, [.int (0 : Int32), .null, .null, .null, .null, .null, .int (0 : Int32)]))])) (fun _ => rfl) dX9_checkSwr_46 ?_
      clear hP hD hS
      intro q_5 H hP hD hS hk hq_q_5
      replace hN := hN.keep hk
      clear hk
      replace hf := askU hf q_5
      replace hf := hf (fun _ => 0)
      refine lv_dup hx hb dX9_checkSwr_49 rfl ?_
      refine lv_aload_n hx hb dX9_checkSwr_50 rfl (lv_at hl 0 rfl) ?_
      refine lv_aload_n hx hb dX9_checkSwr_51 rfl (lv_at hl 0 rfl) ?_
      refine g_get hx hb hts S.2.2.2.1 hK hP in_X9 20 rfl rfl 0 (by decide) q1273 (fun _ h9 => h9) (v := .ref on) rfl dX9_checkSwr_52 ?_
      refine g_getN hx hb hts S.2.2.2.1 hK hP in_X2 21 rfl rfl 1 (by decide) q187 (fun _ h9 => h9) (v := .int t.2.1) rfl dX9_checkSwr_55 ?_
      obtain ⟨r_7, h_6, hf⟩ := b1_some hf
      refine run_iM (w := (XW d z b μ.1 ++ [(o, .inr (9, [.ref on, .int (μ.1.1 90), .int (μ.1.1 91), .ref (b 0)])), (on, .inr (3, [.int t.1, .int t.2.1, .int t.2.2])), (q_5, .inr (10, [.int (0 : Int32), .null, .null, .null, .null, .null, .int (0 : Int32)]))])) (tl := μ.2) (wr := [(b 0, .inr (1, [.ref (b 1), .int (μ.1.1 1), .int (μ.1.1 2), .ref (b 2), .ref (b 3), .ref (b 4), va_rf (μ.1.2.2.2.2 6 0), .ref (b 7), .ref (b 13), .ref (b 16), .int (μ.1.1 10)])), (b 1, .inl (d 2, 500, .inl (μ.1.2.2.1 1))), (b 2, .inl (d 5, 2, .inr (.inr (.inr (.inr (fun j => some (z.2.2 j))))))), (b 3, .inl (d 6, 5, .inr (.inr (.inr (.inr (fun j => some (z.2.2 (2 + j)))))))), (b 4, .inr (4, [.int (μ.1.1 20), .long (μ.1.2.1 21), .long (μ.1.2.1 22), .long (μ.1.2.1 23), .ref (b 5), .ref (b 6), .ref (b 0)])), (b 5, .inr (2, [.long (μ.1.2.1 30), .long (μ.1.2.1 31)])), (b 6, .inr (2, [.long (μ.1.2.1 32), .long (μ.1.2.1 33)])), (b 7, .inr (6, [.int (μ.1.1 40), .int (μ.1.1 41), .int (μ.1.1 42), .int (μ.1.1 43), .int (μ.1.1 44), .int (μ.1.1 45), .ref (b 8), .ref (b 9), .ref (b 10), .int (μ.1.1 49), .ref (b 11), .ref (b 12), .int (μ.1.1 52)])), (b 8, .inl (d 0, 16, .inl (μ.1.2.2.1 46))), (b 9, .inl (d 1, 16, .inr (.inl (μ.1.2.2.2.1 47)))), (b 10, .inl (d 1, 16, .inr (.inl (μ.1.2.2.2.1 48)))), (b 11, .inl (d 0, 8, .inl (μ.1.2.2.1 50))), (b 12, .inl (d 0, 8, .inl (μ.1.2.2.1 51))), (b 13, .inr (8, [.int (μ.1.1 60), .int (μ.1.1 61), .int (μ.1.1 62), .int (μ.1.1 63), .ref (b 14), .ref (b 15), .int (μ.1.1 66), .ref (b 17)])), (b 14, .inl (d 0, 100, .inl (μ.1.2.2.1 64))), (b 15, .inl (d 3, 100, .inl (μ.1.2.2.1 65))), (b 17, .inr (18, [.int (μ.1.1 70), .ref (b 18), .int (μ.1.1 72)])), (b 18, .inl (d 4, 16, .inr (.inr (.inr (.inr (μ.1.2.2.2.2 18)))))), (b 16, .inr (17, [.ref (b 19), .int (μ.1.1 81), .int (μ.1.1 82)])), (b 19, .inl (d 4, 17, .inr (.inr (.inr (.inr (μ.1.2.2.2.2 19)))))), (o, .inr (9, [.ref on, .int (μ.1.1 90), .int (μ.1.1 91), .ref (b 0)])), (on, .inr (3, [.int t.1, .int t.2.1, .int t.2.2])), (q_5, .inr (10, [.int (0 : Int32), .null, .null, .null, .null, .null, .int (0 : Int32)]))]) (w' := (XW d z b μ.1 ++ [(o, .inr (9, [.ref on, .int (μ.1.1 90), .int (μ.1.1 91), .ref (b 0)])), (on, .inr (3, [.int t.1, .int t.2.1, .int t.2.2])), (q_5, .inr (10, [.int (0 : Int32), .null, .null, .null, .null, .null, .int (0 : Int32)]))])) (va_runV (As := [.int t.2.1]) (rest := [.ref q_5, .ref q_5]) S (keI (tX9_isEnd l D d z K o t.2.1 r_7 h_6 _) H) (cwV 1 hts (lw_V q1299 q1301 qs39 q121 q1302) rfl rfl rfl (by decide +kernel) ⟨(Nat.le_of_ble_eq_true rfl), (Nat.le_of_ble_eq_true rfl)⟩) ⟨kbl Pw.blind, (va_recv hK.1 hP (ci := 9) (q0 := 20) rfl rfl), fun U hU hW => ⟨Pw.cut (w := (XW d z b μ.1 ++ [(o, .inr (9, [.ref on, .int (μ.1.1 90), .int (μ.1.1 91), .ref (b 0)])), (on, .inr (3, [.int t.1, .int t.2.1, .int t.2.2])), (q_5, .inr (10, [.int (0 : Int32), .null, .null, .null, .null, .null, .int (0 : Int32)]))])) (tl := μ.2) hK hP hD hZ hS hA [] rfl rfl hU hW, hU⟩⟩ rfl rfl hl.1 rfl (lv_room (Nat.le_of_ble_eq_true rfl)) dX9_checkSwr_58 ⟨(Nat.le_of_ble_eq_true rfl), (Nat.le_of_ble_eq_true rfl)⟩) hP hD hS hA [] [0, 1, 2, 3, 4, 5, 6, 7, 8, 9, 10, 11, 12, 13, 14, 15, 16, 17, 18, 19, 20, 21, 22] [0, 1, 2, 3, 4, 5, 6, 7, 8, 9, 10, 11, 12, 13, 14, 15, 16, 17, 18, 19, 20, 21, 22] rfl rfl rfl rfl (by decide) rfl rfl ?_
      clear hP hD hS
      intro H locs hP hD hS hk
      replace hN := hN.keep hk
      replace hq_q_5 := hq_q_5.keep hk
      clear hk
      clear h_6
      refine lv_if_eq (tgt := 74) hx hb dX9_checkSwr_61 (by decide) (fun c_8 => ?_) (fun c_8 => ?_)
      · replace hf := it_f hf (bi_e0 c_8)
        clear c_8
        refine lv_aload_n hx hb dX9_checkSwr_74 rfl (lv_at hl 0 rfl) ?_
        refine g_get hx hb hts S.2.2.2.1 hK hP in_X9 20 rfl rfl 0 (by decide) q1273 (fun _ h9 => h9) (v := .ref on) rfl dX9_checkSwr_75 ?_
        refine g_getN hx hb hts S.2.2.2.1 hK hP in_X2 21 rfl rfl 2 (by decide) q190 (fun _ h9 => h9) (v := .int t.2.2) rfl dX9_checkSwr_78 ?_
        refine run_vSM (w := (XW d z b μ.1 ++ [(o, .inr (9, [.ref on, .int (μ.1.1 90), .int (μ.1.1 91), .ref (b 0)])), (on, .inr (3, [.int t.1, .int t.2.1, .int t.2.2])), (q_5, .inr (10, [.int (0 : Int32), .null, .null, .null, .null, .null, .int (0 : Int32)]))])) (tl := μ.2) (wr := [(b 0, .inr (1, [.ref (b 1), .int (μ.1.1 1), .int (μ.1.1 2), .ref (b 2), .ref (b 3), .ref (b 4), va_rf (μ.1.2.2.2.2 6 0), .ref (b 7), .ref (b 13), .ref (b 16), .int (μ.1.1 10)])), (b 1, .inl (d 2, 500, .inl (μ.1.2.2.1 1))), (b 2, .inl (d 5, 2, .inr (.inr (.inr (.inr (fun j => some (z.2.2 j))))))), (b 3, .inl (d 6, 5, .inr (.inr (.inr (.inr (fun j => some (z.2.2 (2 + j)))))))), (b 4, .inr (4, [.int (μ.1.1 20), .long (μ.1.2.1 21), .long (μ.1.2.1 22), .long (μ.1.2.1 23), .ref (b 5), .ref (b 6), .ref (b 0)])), (b 5, .inr (2, [.long (μ.1.2.1 30), .long (μ.1.2.1 31)])), (b 6, .inr (2, [.long (μ.1.2.1 32), .long (μ.1.2.1 33)])), (b 7, .inr (6, [.int (μ.1.1 40), .int (μ.1.1 41), .int (μ.1.1 42), .int (μ.1.1 43), .int (μ.1.1 44), .int (μ.1.1 45), .ref (b 8), .ref (b 9), .ref (b 10), .int (μ.1.1 49), .ref (b 11), .ref (b 12), .int (μ.1.1 52)])), (b 8, .inl (d 0, 16, .inl (μ.1.2.2.1 46))), (b 9, .inl (d 1, 16, .inr (.inl (μ.1.2.2.2.1 47)))), (b 10, .inl (d 1, 16, .inr (.inl (μ.1.2.2.2.1 48)))), (b 11, .inl (d 0, 8, .inl (μ.1.2.2.1 50))), (b 12, .inl (d 0, 8, .inl (μ.1.2.2.1 51))), (b 13, .inr (8, [.int (μ.1.1 60), .int (μ.1.1 61), .int (μ.1.1 62), .int (μ.1.1 63), .ref (b 14), .ref (b 15), .int (μ.1.1 66), .ref (b 17)])), (b 14, .inl (d 0, 100, .inl (μ.1.2.2.1 64))), (b 15, .inl (d 3, 100, .inl (μ.1.2.2.1 65))), (b 17, .inr (18, [.int (μ.1.1 70), .ref (b 18), .int (μ.1.1 72)])), (b 18, .inl (d 4, 16, .inr (.inr (.inr (.inr (μ.1.2.2.2.2 18)))))), (b 16, .inr (17, [.ref (b 19), .int (μ.1.1 81), .int (μ.1.1 82)])), (b 19, .inl (d 4, 17, .inr (.inr (.inr (.inr (μ.1.2.2.2.2 19)))))), (o, .inr (9, [.ref on, .int (μ.1.1 90), .int (μ.1.1 91), .ref (b 0)])), (on, .inr (3, [.int t.1, .int t.2.1, .int t.2.2]))]) (w' := fun u : UU => (XW d z b μ.1 ++ [(o, .inr (9, [.ref on, .int (μ.1.1 90), .int (μ.1.1 91), .ref (b 0)])), (on, .inr (3, [.int t.1, .int t.2.1, .int t.2.2])), (q_5, .inr (10, [.int t.2.2, .null, .null, .null, .null, .null, .int (0 : Int32)]))])) (va_runI (As := [.int t.2.2]) (rest := [.ref q_5]) S (keV (tX11_initn l D d z q_5 t.2.2 _) H) (cwI 1 hts (lw_meth q1313) rfl rfl rfl (hts _ q123) (hts _ q1311) (hts _ q1312) rfl (by decide +kernel) ⟨(Nat.le_of_ble_eq_true rfl), (Nat.le_of_ble_eq_true rfl)⟩) ⟨kbl Pw.blind, fun U hU hW => ⟨Pw.cut (w := (XW d z b μ.1 ++ [(o, .inr (9, [.ref on, .int (μ.1.1 90), .int (μ.1.1 91), .ref (b 0)])), (on, .inr (3, [.int t.1, .int t.2.1, .int t.2.2])), (q_5, .inr (10, [.int (0 : Int32), .null, .null, .null, .null, .null, .int (0 : Int32)]))])) (tl := μ.2) hK hP hD hZ hS hA [22] rfl rfl hU hW, hU⟩⟩ rfl rfl hl.1 rfl (lv_room (Nat.le_of_ble_eq_true rfl)) dX9_checkSwr_81 ⟨(Nat.le_of_ble_eq_true rfl), (Nat.le_of_ble_eq_true rfl)⟩) hP hD hS hA [22] [0, 1, 2, 3, 4, 5, 6, 7, 8, 9, 10, 11, 12, 13, 14, 15, 16, 17, 18, 19, 20, 21] [0, 1, 2, 3, 4, 5, 6, 7, 8, 9, 10, 11, 12, 13, 14, 15, 16, 17, 18, 19, 20, 21, 22] rfl rfl rfl rfl (by decide) rfl (fun _ => rfl) ?_
        clear hP hD hS
        intro u_9 _ H locs hP hD hS hk
        replace hN := hN.keep hk
        replace hq_q_5 := hq_q_5.keep hk
        clear hk
        refine vx_athrow hx hb dX9_checkSwr_84 ?_
        obtain ⟨ζ_10, e_ζ_10⟩ : ∃ x, x = (μ.1, [(q_5, .inr (10, [.int t.2.2, .null, .null, .null, .null, .null, .int (0 : Int32)]))] ++ μ.2) := ⟨_, rfl⟩
        replace hN := MN.eqt (w2 := ζ_10.2) (w := [(q_5, .inr (10, [.int t.2.2, .null, .null, .null, .null, .null, .int (0 : Int32)]))] ++ μ.2) (MN.cons hq_q_5 hN) (by rw [e_ζ_10])
        replace hf := nm_some hf ζ_10 e_ζ_10
        replace hP := kp_P (w := (XW d z b μ.1 ++ [(o, .inr (9, [.ref on, .int (μ.1.1 90), .int (μ.1.1 91), .ref (b 0)])), (on, .inr (3, [.int t.1, .int t.2.1, .int t.2.2]))])) (ks := [(q_5, .inr (10, [.int t.2.2, .null, .null, .null, .null, .null, .int (0 : Int32)]))]) (w' := (XW d z b ζ_10.1 ++ [(o, .inr (9, [.ref on, .int (ζ_10.1.1 90), .int (ζ_10.1.1 91), .ref (b 0)])), (on, .inr (3, [.int t.1, .int t.2.1, .int t.2.2]))])) (t2 := ζ_10.2) (by rw [show ((XW d z b μ.1 ++ [(o, .inr (9, [.ref on, .int (μ.1.1 90), .int (μ.1.1 91), .ref (b 0)])), (on, .inr (3, [.int t.1, .int t.2.1, .int t.2.2]))])) ++ [(q_5, .inr (10, [.int t.2.2, .null, .null, .null, .null, .null, .int (0 : Int32)]))] = (XW d z b μ.1 ++ [(o, .inr (9, [.ref on, .int (μ.1.1 90), .int (μ.1.1 91), .ref (b 0)])), (on, .inr (3, [.int t.1, .int t.2.1, .int t.2.2])), (q_5, .inr (10, [.int t.2.2, .null, .null, .null, .null, .null, .int (0 : Int32)]))]) from rfl]; exact hP) (by subst e_ζ_10; rfl) (by subst e_ζ_10; rfl)
        replace hD := kp_D (w := (XW d z b μ.1 ++ [(o, .inr (9, [.ref on, .int (μ.1.1 90), .int (μ.1.1 91), .ref (b 0)])), (on, .inr (3, [.int t.1, .int t.2.1, .int t.2.2]))])) (ks := [(q_5, .inr (10, [.int t.2.2, .null, .null, .null, .null, .null, .int (0 : Int32)]))]) (w' := (XW d z b ζ_10.1 ++ [(o, .inr (9, [.ref on, .int (ζ_10.1.1 90), .int (ζ_10.1.1 91), .ref (b 0)])), (on, .inr (3, [.int t.1, .int t.2.1, .int t.2.2]))])) (t2 := ζ_10.2) (by rw [show ((XW d z b μ.1 ++ [(o, .inr (9, [.ref on, .int (μ.1.1 90), .int (μ.1.1 91), .ref (b 0)])), (on, .inr (3, [.int t.1, .int t.2.1, .int t.2.2]))])) ++ [(q_5, .inr (10, [.int t.2.2, .null, .null, .null, .null, .null, .int (0 : Int32)]))] = (XW d z b μ.1 ++ [(o, .inr (9, [.ref on, .int (μ.1.1 90), .int (μ.1.1 91), .ref (b 0)])), (on, .inr (3, [.int t.1, .int t.2.1, .int t.2.2])), (q_5, .inr (10, [.int t.2.2, .null, .null, .null, .null, .null, .int (0 : Int32)]))]) from rfl]; exact hD) (by subst e_ζ_10; rfl) (by subst e_ζ_10; rfl)
        have m_q_5 : (q_5, (.inr (10, [.int t.2.2, .null, .null, .null, .null, .null, .int (0 : Int32)]) : va_E)) ∈ ζ_10.2 := by subst e_ζ_10; exact List.mem_append_left _ (List.mem_of_getElem? (i := 0) rfl)
        clear e_ζ_10
        refine vx_widen (k := 1) (n := 7) (Nat.le_of_ble_eq_true rfl) (Nat.le_of_ble_eq_true rfl) ?_
        exact hthr _ _ _ _ _ _ _ _ _ hf hP hD hS hN ⟨_, List.mem_append_right _ m_q_5⟩
      · replace hf := it_t hf (bi_n0 c_8)
        clear c_8
        refine lv_aload_n hx hb dX9_checkSwr_64 rfl (lv_at hl 0 rfl) ?_
        refine g_get hx hb hts S.2.2.2.1 hK hP in_X9 20 rfl rfl 0 (by decide) q1273 (fun _ h9 => h9) (v := .ref on) rfl dX9_checkSwr_65 ?_
        refine g_getN hx hb hts S.2.2.2.1 hK hP in_X2 21 rfl rfl 1 (by decide) q187 (fun _ h9 => h9) (v := .int t.2.1) rfl dX9_checkSwr_68 ?_
        refine lv_goto (tgt := 81) hx hb dX9_checkSwr_71 (by decide) ?_
        refine run_vSM (w := (XW d z b μ.1 ++ [(o, .inr (9, [.ref on, .int (μ.1.1 90), .int (μ.1.1 91), .ref (b 0)])), (on, .inr (3, [.int t.1, .int t.2.1, .int t.2.2])), (q_5, .inr (10, [.int (0 : Int32), .null, .null, .null, .null, .null, .int (0 : Int32)]))])) (tl := μ.2) (wr := [(b 0, .inr (1, [.ref (b 1), .int (μ.1.1 1), .int (μ.1.1 2), .ref (b 2), .ref (b 3), .ref (b 4), va_rf (μ.1.2.2.2.2 6 0), .ref (b 7), .ref (b 13), .ref (b 16), .int (μ.1.1 10)])), (b 1, .inl (d 2, 500, .inl (μ.1.2.2.1 1))), (b 2, .inl (d 5, 2, .inr (.inr (.inr (.inr (fun j => some (z.2.2 j))))))), (b 3, .inl (d 6, 5, .inr (.inr (.inr (.inr (fun j => some (z.2.2 (2 + j)))))))), (b 4, .inr (4, [.int (μ.1.1 20), .long (μ.1.2.1 21), .long (μ.1.2.1 22), .long (μ.1.2.1 23), .ref (b 5), .ref (b 6), .ref (b 0)])), (b 5, .inr (2, [.long (μ.1.2.1 30), .long (μ.1.2.1 31)])), (b 6, .inr (2, [.long (μ.1.2.1 32), .long (μ.1.2.1 33)])), (b 7, .inr (6, [.int (μ.1.1 40), .int (μ.1.1 41), .int (μ.1.1 42), .int (μ.1.1 43), .int (μ.1.1 44), .int (μ.1.1 45), .ref (b 8), .ref (b 9), .ref (b 10), .int (μ.1.1 49), .ref (b 11), .ref (b 12), .int (μ.1.1 52)])), (b 8, .inl (d 0, 16, .inl (μ.1.2.2.1 46))), (b 9, .inl (d 1, 16, .inr (.inl (μ.1.2.2.2.1 47)))), (b 10, .inl (d 1, 16, .inr (.inl (μ.1.2.2.2.1 48)))), (b 11, .inl (d 0, 8, .inl (μ.1.2.2.1 50))), (b 12, .inl (d 0, 8, .inl (μ.1.2.2.1 51))), (b 13, .inr (8, [.int (μ.1.1 60), .int (μ.1.1 61), .int (μ.1.1 62), .int (μ.1.1 63), .ref (b 14), .ref (b 15), .int (μ.1.1 66), .ref (b 17)])), (b 14, .inl (d 0, 100, .inl (μ.1.2.2.1 64))), (b 15, .inl (d 3, 100, .inl (μ.1.2.2.1 65))), (b 17, .inr (18, [.int (μ.1.1 70), .ref (b 18), .int (μ.1.1 72)])), (b 18, .inl (d 4, 16, .inr (.inr (.inr (.inr (μ.1.2.2.2.2 18)))))), (b 16, .inr (17, [.ref (b 19), .int (μ.1.1 81), .int (μ.1.1 82)])), (b 19, .inl (d 4, 17, .inr (.inr (.inr (.inr (μ.1.2.2.2.2 19)))))), (o, .inr (9, [.ref on, .int (μ.1.1 90), .int (μ.1.1 91), .ref (b 0)])), (on, .inr (3, [.int t.1, .int t.2.1, .int t.2.2]))]) (w' := fun u : UU => (XW d z b μ.1 ++ [(o, .inr (9, [.ref on, .int (μ.1.1 90), .int (μ.1.1 91), .ref (b 0)])), (on, .inr (3, [.int t.1, .int t.2.1, .int t.2.2])), (q_5, .inr (10, [.int t.2.1, .null, .null, .null, .null, .null, .int (0 : Int32)]))])) (va_runI (As := [.int t.2.1]) (rest := [.ref q_5]) S (keV (tX11_initn l D d z q_5 t.2.1 _) H) (cwI 1 hts (lw_meth q1313) rfl rfl rfl (hts _ q123) (hts _ q1311) (hts _ q1312) rfl (by decide +kernel) ⟨(Nat.le_of_ble_eq_true rfl), (Nat.le_of_ble_eq_true rfl)⟩) ⟨kbl Pw.blind, fun U hU hW => ⟨Pw.cut (w := (XW d z b μ.1 ++ [(o, .inr (9, [.ref on, .int (μ.1.1 90), .int (μ.1.1 91), .ref (b 0)])), (on, .inr (3, [.int t.1, .int t.2.1, .int t.2.2])), (q_5, .inr (10, [.int (0 : Int32), .null, .null, .null, .null, .null, .int (0 : Int32)]))])) (tl := μ.2) hK hP hD hZ hS hA [22] rfl rfl hU hW, hU⟩⟩ rfl rfl hl.1 rfl (lv_room (Nat.le_of_ble_eq_true rfl)) dX9_checkSwr_81 ⟨(Nat.le_of_ble_eq_true rfl), (Nat.le_of_ble_eq_true rfl)⟩) hP hD hS hA [22] [0, 1, 2, 3, 4, 5, 6, 7, 8, 9, 10, 11, 12, 13, 14, 15, 16, 17, 18, 19, 20, 21] [0, 1, 2, 3, 4, 5, 6, 7, 8, 9, 10, 11, 12, 13, 14, 15, 16, 17, 18, 19, 20, 21, 22] rfl rfl rfl rfl (by decide) rfl (fun _ => rfl) ?_
        clear hP hD hS
        intro u_11 _ H locs hP hD hS hk
        replace hN := hN.keep hk
        replace hq_q_5 := hq_q_5.keep hk
        clear hk
        refine vx_athrow hx hb dX9_checkSwr_84 ?_
        obtain ⟨ζ_12, e_ζ_12⟩ : ∃ x, x = (μ.1, [(q_5, .inr (10, [.int t.2.1, .null, .null, .null, .null, .null, .int (0 : Int32)]))] ++ μ.2) := ⟨_, rfl⟩
        replace hN := MN.eqt (w2 := ζ_12.2) (w := [(q_5, .inr (10, [.int t.2.1, .null, .null, .null, .null, .null, .int (0 : Int32)]))] ++ μ.2) (MN.cons hq_q_5 hN) (by rw [e_ζ_12])
        replace hf := nm_some hf ζ_12 e_ζ_12
        replace hP := kp_P (w := (XW d z b μ.1 ++ [(o, .inr (9, [.ref on, .int (μ.1.1 90), .int (μ.1.1 91), .ref (b 0)])), (on, .inr (3, [.int t.1, .int t.2.1, .int t.2.2]))])) (ks := [(q_5, .inr (10, [.int t.2.1, .null, .null, .null, .null, .null, .int (0 : Int32)]))]) (w' := (XW d z b ζ_12.1 ++ [(o, .inr (9, [.ref on, .int (ζ_12.1.1 90), .int (ζ_12.1.1 91), .ref (b 0)])), (on, .inr (3, [.int t.1, .int t.2.1, .int t.2.2]))])) (t2 := ζ_12.2) (by rw [show ((XW d z b μ.1 ++ [(o, .inr (9, [.ref on, .int (μ.1.1 90), .int (μ.1.1 91), .ref (b 0)])), (on, .inr (3, [.int t.1, .int t.2.1, .int t.2.2]))])) ++ [(q_5, .inr (10, [.int t.2.1, .null, .null, .null, .null, .null, .int (0 : Int32)]))] = (XW d z b μ.1 ++ [(o, .inr (9, [.ref on, .int (μ.1.1 90), .int (μ.1.1 91), .ref (b 0)])), (on, .inr (3, [.int t.1, .int t.2.1, .int t.2.2])), (q_5, .inr (10, [.int t.2.1, .null, .null, .null, .null, .null, .int (0 : Int32)]))]) from rfl]; exact hP) (by subst e_ζ_12; rfl) (by subst e_ζ_12; rfl)
        replace hD := kp_D (w := (XW d z b μ.1 ++ [(o, .inr (9, [.ref on, .int (μ.1.1 90), .int (μ.1.1 91), .ref (b 0)])), (on, .inr (3, [.int t.1, .int t.2.1, .int t.2.2]))])) (ks := [(q_5, .inr (10, [.int t.2.1, .null, .null, .null, .null, .null, .int (0 : Int32)]))]) (w' := (XW d z b ζ_12.1 ++ [(o, .inr (9, [.ref on, .int (ζ_12.1.1 90), .int (ζ_12.1.1 91), .ref (b 0)])), (on, .inr (3, [.int t.1, .int t.2.1, .int t.2.2]))])) (t2 := ζ_12.2) (by rw [show ((XW d z b μ.1 ++ [(o, .inr (9, [.ref on, .int (μ.1.1 90), .int (μ.1.1 91), .ref (b 0)])), (on, .inr (3, [.int t.1, .int t.2.1, .int t.2.2]))])) ++ [(q_5, .inr (10, [.int t.2.1, .null, .null, .null, .null, .null, .int (0 : Int32)]))] = (XW d z b μ.1 ++ [(o, .inr (9, [.ref on, .int (μ.1.1 90), .int (μ.1.1 91), .ref (b 0)])), (on, .inr (3, [.int t.1, .int t.2.1, .int t.2.2])), (q_5, .inr (10, [.int t.2.1, .null, .null, .null, .null, .null, .int (0 : Int32)]))]) from rfl]; exact hD) (by subst e_ζ_12; rfl) (by subst e_ζ_12; rfl)
        have m_q_5 : (q_5, (.inr (10, [.int t.2.1, .null, .null, .null, .null, .null, .int (0 : Int32)]) : va_E)) ∈ ζ_12.2 := by subst e_ζ_12; exact List.mem_append_left _ (List.mem_of_getElem? (i := 0) rfl)
        clear e_ζ_12
        refine vx_widen (k := 1) (n := 7) (Nat.le_of_ble_eq_true rfl) (Nat.le_of_ble_eq_true rfl) ?_
        exact hthr _ _ _ _ _ _ _ _ _ hf hP hD hS hN ⟨_, List.mem_append_right _ m_q_5⟩
    · replace hf := itU_f hf (bi_e0 c_4)
      clear c_4
      refine lv_aload_n hx hb dX9_checkSwr_32 rfl (lv_at hl 0 rfl) ?_
      refine lv_aload_n hx hb dX9_checkSwr_33 rfl (lv_at hl 0 rfl) ?_
      refine g_get hx hb hts S.2.2.2.1 hK hP in_X9 20 rfl rfl 0 (by decide) q1273 (fun _ h9 => h9) (v := .ref on) rfl dX9_checkSwr_34 ?_
      refine g_getN hx hb hts S.2.2.2.1 hK hP in_X2 21 rfl rfl 2 (by decide) q190 (fun _ h9 => h9) (v := .int t.2.2) rfl dX9_checkSwr_37 ?_
      obtain ⟨r_14, h_13, hf⟩ := b1U hf
      refine run_iM (w := (XW d z b μ.1 ++ [(o, .inr (9, [.ref on, .int (μ.1.1 90), .int (μ.1.1 91), .ref (b 0)])), (on, .inr (3, [.int t.1, .int t.2.1, .int t.2.2]))])) (tl := μ.2) (wr := [(b 0, .inr (1, [.ref (b 1), .int (μ.1.1 1), .int (μ.1.1 2), .ref (b 2), .ref (b 3), .ref (b 4), va_rf (μ.1.2.2.2.2 6 0), .ref (b 7), .ref (b 13), .ref (b 16), .int (μ.1.1 10)])), (b 1, .inl (d 2, 500, .inl (μ.1.2.2.1 1))), (b 2, .inl (d 5, 2, .inr (.inr (.inr (.inr (fun j => some (z.2.2 j))))))), (b 3, .inl (d 6, 5, .inr (.inr (.inr (.inr (fun j => some (z.2.2 (2 + j)))))))), (b 4, .inr (4, [.int (μ.1.1 20), .long (μ.1.2.1 21), .long (μ.1.2.1 22), .long (μ.1.2.1 23), .ref (b 5), .ref (b 6), .ref (b 0)])), (b 5, .inr (2, [.long (μ.1.2.1 30), .long (μ.1.2.1 31)])), (b 6, .inr (2, [.long (μ.1.2.1 32), .long (μ.1.2.1 33)])), (b 7, .inr (6, [.int (μ.1.1 40), .int (μ.1.1 41), .int (μ.1.1 42), .int (μ.1.1 43), .int (μ.1.1 44), .int (μ.1.1 45), .ref (b 8), .ref (b 9), .ref (b 10), .int (μ.1.1 49), .ref (b 11), .ref (b 12), .int (μ.1.1 52)])), (b 8, .inl (d 0, 16, .inl (μ.1.2.2.1 46))), (b 9, .inl (d 1, 16, .inr (.inl (μ.1.2.2.2.1 47)))), (b 10, .inl (d 1, 16, .inr (.inl (μ.1.2.2.2.1 48)))), (b 11, .inl (d 0, 8, .inl (μ.1.2.2.1 50))), (b 12, .inl (d 0, 8, .inl (μ.1.2.2.1 51))), (b 13, .inr (8, [.int (μ.1.1 60), .int (μ.1.1 61), .int (μ.1.1 62), .int (μ.1.1 63), .ref (b 14), .ref (b 15), .int (μ.1.1 66), .ref (b 17)])), (b 14, .inl (d 0, 100, .inl (μ.1.2.2.1 64))), (b 15, .inl (d 3, 100, .inl (μ.1.2.2.1 65))), (b 17, .inr (18, [.int (μ.1.1 70), .ref (b 18), .int (μ.1.1 72)])), (b 18, .inl (d 4, 16, .inr (.inr (.inr (.inr (μ.1.2.2.2.2 18)))))), (b 16, .inr (17, [.ref (b 19), .int (μ.1.1 81), .int (μ.1.1 82)])), (b 19, .inl (d 4, 17, .inr (.inr (.inr (.inr (μ.1.2.2.2.2 19)))))), (o, .inr (9, [.ref on, .int (μ.1.1 90), .int (μ.1.1 91), .ref (b 0)])), (on, .inr (3, [.int t.1, .int t.2.1, .int t.2.2]))]) (w' := (XW d z b μ.1 ++ [(o, .inr (9, [.ref on, .int (μ.1.1 90), .int (μ.1.1 91), .ref (b 0)])), (on, .inr (3, [.int t.1, .int t.2.1, .int t.2.2]))])) (va_runV (As := [.int t.2.2]) (rest := []) S (keI (tX9_isEnd l D d z K o t.2.2 r_14 h_13 _) H) (cwV 1 hts (lw_V q1299 q1301 qs39 q121 q1302) rfl rfl rfl (by decide +kernel) ⟨(Nat.le_of_ble_eq_true rfl), (Nat.le_of_ble_eq_true rfl)⟩) ⟨kbl Pw.blind, (va_recv hK.1 hP (ci := 9) (q0 := 20) rfl rfl), fun U hU hW => ⟨Pw.cut (w := (XW d z b μ.1 ++ [(o, .inr (9, [.ref on, .int (μ.1.1 90), .int (μ.1.1 91), .ref (b 0)])), (on, .inr (3, [.int t.1, .int t.2.1, .int t.2.2]))])) (tl := μ.2) hK hP hD hZ hS hA [] rfl rfl hU hW, hU⟩⟩ rfl rfl hl.1 rfl (lv_room (Nat.le_of_ble_eq_true rfl)) dX9_checkSwr_40 ⟨(Nat.le_of_ble_eq_true rfl), (Nat.le_of_ble_eq_true rfl)⟩) hP hD hS hA [] [0, 1, 2, 3, 4, 5, 6, 7, 8, 9, 10, 11, 12, 13, 14, 15, 16, 17, 18, 19, 20, 21] [0, 1, 2, 3, 4, 5, 6, 7, 8, 9, 10, 11, 12, 13, 14, 15, 16, 17, 18, 19, 20, 21] rfl rfl rfl rfl (by decide) rfl rfl ?_
      clear hP hD hS
      intro H locs hP hD hS hk
      replace hN := hN.keep hk
      clear hk
      clear h_13
      refine lv_if_eq (tgt := 85) hx hb dX9_checkSwr_43 (by decide) (fun c_15 => ?_) (fun c_15 => ?_)
      · replace hf := itU_f hf (bi_e0 c_15)
        clear c_15
        refine g_newTM (w := (XW d z b μ.1 ++ [(o, .inr (9, [.ref on, .int (μ.1.1 90), .int (μ.1.1 91), .ref (b 0)])), (on, .inr (3, [.int t.1, .int t.2.1, .int t.2.2]))])) (tl := μ.2) hx hb hts S.2.2.2.1 hK hP hD hS hA (ci := 11) in_X12 tyX12 tyX12_ok q1324 q1325 q124 rfl (fs := [.int (0 : Int32), .null, .null, .null, .null, .null, .int (0 : Int32)]) (fun j hj => by rcases (show j = 0 ∨ j = 1 ∨ j = 2 ∨ j = 3 ∨ j = 4 ∨ j = 5 ∨ j = 6 by omega) with rfl | rfl | rfl | rfl | rfl | rfl | rfl <;> rfl) (Nat.le_of_ble_eq_true rfl) (Nat.le_of_ble_eq_true rfl) (w1 := fun q => (XW d z b μ.1 ++ [(o, .inr (9, [.ref on, .int (μ.1.1 90), .int (μ.1.1 91), .ref (b 0)])), (on, .inr (3, [.int t.1, .int t.2.1, .int t.2.2])), (q, .inr (11, [.int (0 : Int32), .null, .null, .null, .null, .null, .int (0 : Int32)]))])) (fun _ => rfl) dX9_checkSwr_85 ?_
        clear hP hD hS
        intro q_16 H hP hD hS hk hq_q_16
        replace hN := hN.keep hk
        clear hk
        replace hf := askU hf q_16
        replace hf := hf (fun _ => 0)
        refine lv_dup hx hb dX9_checkSwr_88 rfl ?_
        refine lv_aload_n hx hb dX9_checkSwr_89 rfl (lv_at hl 0 rfl) ?_
        refine g_get hx hb hts S.2.2.2.1 hK hP in_X9 20 rfl rfl 1 (by decide) q1275 (fun _ h9 => h9) (v := .int (μ.1.1 90)) rfl dX9_checkSwr_90 ?_
        refine lv_null hx hb dX9_checkSwr_93 ?_
        refine run_vSM (w := (XW d z b μ.1 ++ [(o, .inr (9, [.ref on, .int (μ.1.1 90), .int (μ.1.1 91), .ref (b 0)])), (on, .inr (3, [.int t.1, .int t.2.1, .int t.2.2])), (q_16, .inr (11, [.int (0 : Int32), .null, .null, .null, .null, .null, .int (0 : Int32)]))])) (tl := μ.2) (wr := [(b 0, .inr (1, [.ref (b 1), .int (μ.1.1 1), .int (μ.1.1 2), .ref (b 2), .ref (b 3), .ref (b 4), va_rf (μ.1.2.2.2.2 6 0), .ref (b 7), .ref (b 13), .ref (b 16), .int (μ.1.1 10)])), (b 1, .inl (d 2, 500, .inl (μ.1.2.2.1 1))), (b 2, .inl (d 5, 2, .inr (.inr (.inr (.inr (fun j => some (z.2.2 j))))))), (b 3, .inl (d 6, 5, .inr (.inr (.inr (.inr (fun j => some (z.2.2 (2 + j)))))))), (b 4, .inr (4, [.int (μ.1.1 20), .long (μ.1.2.1 21), .long (μ.1.2.1 22), .long (μ.1.2.1 23), .ref (b 5), .ref (b 6), .ref (b 0)])), (b 5, .inr (2, [.long (μ.1.2.1 30), .long (μ.1.2.1 31)])), (b 6, .inr (2, [.long (μ.1.2.1 32), .long (μ.1.2.1 33)])), (b 7, .inr (6, [.int (μ.1.1 40), .int (μ.1.1 41), .int (μ.1.1 42), .int (μ.1.1 43), .int (μ.1.1 44), .int (μ.1.1 45), .ref (b 8), .ref (b 9), .ref (b 10), .int (μ.1.1 49), .ref (b 11), .ref (b 12), .int (μ.1.1 52)])), (b 8, .inl (d 0, 16, .inl (μ.1.2.2.1 46))), (b 9, .inl (d 1, 16, .inr (.inl (μ.1.2.2.2.1 47)))), (b 10, .inl (d 1, 16, .inr (.inl (μ.1.2.2.2.1 48)))), (b 11, .inl (d 0, 8, .inl (μ.1.2.2.1 50))), (b 12, .inl (d 0, 8, .inl (μ.1.2.2.1 51))), (b 13, .inr (8, [.int (μ.1.1 60), .int (μ.1.1 61), .int (μ.1.1 62), .int (μ.1.1 63), .ref (b 14), .ref (b 15), .int (μ.1.1 66), .ref (b 17)])), (b 14, .inl (d 0, 100, .inl (μ.1.2.2.1 64))), (b 15, .inl (d 3, 100, .inl (μ.1.2.2.1 65))), (b 17, .inr (18, [.int (μ.1.1 70), .ref (b 18), .int (μ.1.1 72)])), (b 18, .inl (d 4, 16, .inr (.inr (.inr (.inr (μ.1.2.2.2.2 18)))))), (b 16, .inr (17, [.ref (b 19), .int (μ.1.1 81), .int (μ.1.1 82)])), (b 19, .inl (d 4, 17, .inr (.inr (.inr (.inr (μ.1.2.2.2.2 19)))))), (o, .inr (9, [.ref on, .int (μ.1.1 90), .int (μ.1.1 91), .ref (b 0)])), (on, .inr (3, [.int t.1, .int t.2.1, .int t.2.2]))]) (w' := fun u : UU => (XW d z b μ.1 ++ [(o, .inr (9, [.ref on, .int (μ.1.1 90), .int (μ.1.1 91), .ref (b 0)])), (on, .inr (3, [.int t.1, .int t.2.1, .int t.2.2])), (q_16, .inr (11, [.int (μ.1.1 90), .null, .null, .null, .null, .null, .int (0 : Int32)]))])) (va_runI (As := [.int (μ.1.1 90), .null]) (rest := [.ref q_16]) S (keV (tX12_initn l D d z q_16 (μ.1.1 90) _) H) (cwI 2 hts (lw_meth q1335) rfl rfl rfl (hts _ q124) (hts _ q1333) (hts _ q1334) rfl (by decide +kernel) ⟨(Nat.le_of_ble_eq_true rfl), (Nat.le_of_ble_eq_true rfl)⟩) ⟨kbl Pw.blind, fun U hU hW => ⟨Pw.cut (w := (XW d z b μ.1 ++ [(o, .inr (9, [.ref on, .int (μ.1.1 90), .int (μ.1.1 91), .ref (b 0)])), (on, .inr (3, [.int t.1, .int t.2.1, .int t.2.2])), (q_16, .inr (11, [.int (0 : Int32), .null, .null, .null, .null, .null, .int (0 : Int32)]))])) (tl := μ.2) hK hP hD hZ hS hA [22] rfl rfl hU hW, hU⟩⟩ rfl rfl hl.1 rfl (lv_room (Nat.le_of_ble_eq_true rfl)) dX9_checkSwr_94 ⟨(Nat.le_of_ble_eq_true rfl), (Nat.le_of_ble_eq_true rfl)⟩) hP hD hS hA [22] [0, 1, 2, 3, 4, 5, 6, 7, 8, 9, 10, 11, 12, 13, 14, 15, 16, 17, 18, 19, 20, 21] [0, 1, 2, 3, 4, 5, 6, 7, 8, 9, 10, 11, 12, 13, 14, 15, 16, 17, 18, 19, 20, 21, 22] rfl rfl rfl rfl (by decide) rfl (fun _ => rfl) ?_
        clear hP hD hS
        intro u_17 _ H locs hP hD hS hk
        replace hN := hN.keep hk
        replace hq_q_16 := hq_q_16.keep hk
        clear hk
        refine vx_athrow hx hb dX9_checkSwr_97 ?_
        obtain ⟨ζ_18, e_ζ_18⟩ : ∃ x, x = (μ.1, [(q_16, .inr (11, [.int (μ.1.1 90), .null, .null, .null, .null, .null, .int (0 : Int32)]))] ++ μ.2) := ⟨_, rfl⟩
        replace hN := MN.eqt (w2 := ζ_18.2) (w := [(q_16, .inr (11, [.int (μ.1.1 90), .null, .null, .null, .null, .null, .int (0 : Int32)]))] ++ μ.2) (MN.cons hq_q_16 hN) (by rw [e_ζ_18])
        replace hf := nm_some hf ζ_18 e_ζ_18
        replace hP := kp_P (w := (XW d z b μ.1 ++ [(o, .inr (9, [.ref on, .int (μ.1.1 90), .int (μ.1.1 91), .ref (b 0)])), (on, .inr (3, [.int t.1, .int t.2.1, .int t.2.2]))])) (ks := [(q_16, .inr (11, [.int (μ.1.1 90), .null, .null, .null, .null, .null, .int (0 : Int32)]))]) (w' := (XW d z b ζ_18.1 ++ [(o, .inr (9, [.ref on, .int (ζ_18.1.1 90), .int (ζ_18.1.1 91), .ref (b 0)])), (on, .inr (3, [.int t.1, .int t.2.1, .int t.2.2]))])) (t2 := ζ_18.2) (by rw [show ((XW d z b μ.1 ++ [(o, .inr (9, [.ref on, .int (μ.1.1 90), .int (μ.1.1 91), .ref (b 0)])), (on, .inr (3, [.int t.1, .int t.2.1, .int t.2.2]))])) ++ [(q_16, .inr (11, [.int (μ.1.1 90), .null, .null, .null, .null, .null, .int (0 : Int32)]))] = (XW d z b μ.1 ++ [(o, .inr (9, [.ref on, .int (μ.1.1 90), .int (μ.1.1 91), .ref (b 0)])), (on, .inr (3, [.int t.1, .int t.2.1, .int t.2.2])), (q_16, .inr (11, [.int (μ.1.1 90), .null, .null, .null, .null, .null, .int (0 : Int32)]))]) from rfl]; exact hP) (by subst e_ζ_18; rfl) (by subst e_ζ_18; rfl)
        replace hD := kp_D (w := (XW d z b μ.1 ++ [(o, .inr (9, [.ref on, .int (μ.1.1 90), .int (μ.1.1 91), .ref (b 0)])), (on, .inr (3, [.int t.1, .int t.2.1, .int t.2.2]))])) (ks := [(q_16, .inr (11, [.int (μ.1.1 90), .null, .null, .null, .null, .null, .int (0 : Int32)]))]) (w' := (XW d z b ζ_18.1 ++ [(o, .inr (9, [.ref on, .int (ζ_18.1.1 90), .int (ζ_18.1.1 91), .ref (b 0)])), (on, .inr (3, [.int t.1, .int t.2.1, .int t.2.2]))])) (t2 := ζ_18.2) (by rw [show ((XW d z b μ.1 ++ [(o, .inr (9, [.ref on, .int (μ.1.1 90), .int (μ.1.1 91), .ref (b 0)])), (on, .inr (3, [.int t.1, .int t.2.1, .int t.2.2]))])) ++ [(q_16, .inr (11, [.int (μ.1.1 90), .null, .null, .null, .null, .null, .int (0 : Int32)]))] = (XW d z b μ.1 ++ [(o, .inr (9, [.ref on, .int (μ.1.1 90), .int (μ.1.1 91), .ref (b 0)])), (on, .inr (3, [.int t.1, .int t.2.1, .int t.2.2])), (q_16, .inr (11, [.int (μ.1.1 90), .null, .null, .null, .null, .null, .int (0 : Int32)]))]) from rfl]; exact hD) (by subst e_ζ_18; rfl) (by subst e_ζ_18; rfl)
        have m_q_16 : (q_16, (.inr (11, [.int (μ.1.1 90), .null, .null, .null, .null, .null, .int (0 : Int32)]) : va_E)) ∈ ζ_18.2 := by subst e_ζ_18; exact List.mem_append_left _ (List.mem_of_getElem? (i := 0) rfl)
        clear e_ζ_18
        refine vx_widen (k := 1) (n := 7) (Nat.le_of_ble_eq_true rfl) (Nat.le_of_ble_eq_true rfl) ?_
        exact hthr _ _ _ _ _ _ _ _ _ hf hP hD hS hN ⟨_, List.mem_append_right _ m_q_16⟩
      · replace hf := itU_t hf (bi_n0 c_15)
        clear c_15
        refine g_newTM (w := (XW d z b μ.1 ++ [(o, .inr (9, [.ref on, .int (μ.1.1 90), .int (μ.1.1 91), .ref (b 0)])), (on, .inr (3, [.int t.1, .int t.2.1, .int t.2.2]))])) (tl := μ.2) hx hb hts S.2.2.2.1 hK hP hD hS hA (ci := 10) in_X11 tyX11 tyX11_ok q1293 q1303 q123 rfl (fs := [.int (0 : Int32), .null, .null, .null, .null, .null, .int (0 : Int32)]) (fun j hj => by rcases (show j = 0 ∨ j = 1 ∨ j = 2 ∨ j = 3 ∨ j = 4 ∨ j = 5 ∨ j = 6 by omega) with rfl | rfl | rfl | rfl | rfl | rfl | rfl <;> rfl) (Nat.le_of_ble_eq_true rfl) (Nat.le_of_ble_eq_true rfl) (w1 := fun q => (XW d z b μ.1 ++ [(o, .inr (9, [.ref on, .int (μ.1.1 90), .int (μ.1.1 91), .ref (b 0)])), (on, .inr (3, [.int t.1, .int t.2.1, .int t.2.2])), (q, .inr (10, [.int (0 : Int32), .null, .null, .null, .null, .null, .int (0 : Int32)]))])) (fun _ => rfl) dX9_checkSwr_46 ?_
        clear hP hD hS
        intro q_19 H hP hD hS hk hq_q_19
        replace hN := hN.keep hk
        clear hk
        replace hf := askU hf q_19
        replace hf := hf (fun _ => 0)
        refine lv_dup hx hb dX9_checkSwr_49 rfl ?_
        refine lv_aload_n hx hb dX9_checkSwr_50 rfl (lv_at hl 0 rfl) ?_
        refine lv_aload_n hx hb dX9_checkSwr_51 rfl (lv_at hl 0 rfl) ?_
        refine g_get hx hb hts S.2.2.2.1 hK hP in_X9 20 rfl rfl 0 (by decide) q1273 (fun _ h9 => h9) (v := .ref on) rfl dX9_checkSwr_52 ?_
        refine g_getN hx hb hts S.2.2.2.1 hK hP in_X2 21 rfl rfl 1 (by decide) q187 (fun _ h9 => h9) (v := .int t.2.1) rfl dX9_checkSwr_55 ?_
        obtain ⟨r_21, h_20, hf⟩ := b1_some hf
        refine run_iM (w := (XW d z b μ.1 ++ [(o, .inr (9, [.ref on, .int (μ.1.1 90), .int (μ.1.1 91), .ref (b 0)])), (on, .inr (3, [.int t.1, .int t.2.1, .int t.2.2])), (q_19, .inr (10, [.int (0 : Int32), .null, .null, .null, .null, .null, .int (0 : Int32)]))])) (tl := μ.2) (wr := [(b 0, .inr (1, [.ref (b 1), .int (μ.1.1 1), .int (μ.1.1 2), .ref (b 2), .ref (b 3), .ref (b 4), va_rf (μ.1.2.2.2.2 6 0), .ref (b 7), .ref (b 13), .ref (b 16), .int (μ.1.1 10)])), (b 1, .inl (d 2, 500, .inl (μ.1.2.2.1 1))), (b 2, .inl (d 5, 2, .inr (.inr (.inr (.inr (fun j => some (z.2.2 j))))))), (b 3, .inl (d 6, 5, .inr (.inr (.inr (.inr (fun j => some (z.2.2 (2 + j)))))))), (b 4, .inr (4, [.int (μ.1.1 20), .long (μ.1.2.1 21), .long (μ.1.2.1 22), .long (μ.1.2.1 23), .ref (b 5), .ref (b 6), .ref (b 0)])), (b 5, .inr (2, [.long (μ.1.2.1 30), .long (μ.1.2.1 31)])), (b 6, .inr (2, [.long (μ.1.2.1 32), .long (μ.1.2.1 33)])), (b 7, .inr (6, [.int (μ.1.1 40), .int (μ.1.1 41), .int (μ.1.1 42), .int (μ.1.1 43), .int (μ.1.1 44), .int (μ.1.1 45), .ref (b 8), .ref (b 9), .ref (b 10), .int (μ.1.1 49), .ref (b 11), .ref (b 12), .int (μ.1.1 52)])), (b 8, .inl (d 0, 16, .inl (μ.1.2.2.1 46))), (b 9, .inl (d 1, 16, .inr (.inl (μ.1.2.2.2.1 47)))), (b 10, .inl (d 1, 16, .inr (.inl (μ.1.2.2.2.1 48)))), (b 11, .inl (d 0, 8, .inl (μ.1.2.2.1 50))), (b 12, .inl (d 0, 8, .inl (μ.1.2.2.1 51))), (b 13, .inr (8, [.int (μ.1.1 60), .int (μ.1.1 61), .int (μ.1.1 62), .int (μ.1.1 63), .ref (b 14), .ref (b 15), .int (μ.1.1 66), .ref (b 17)])), (b 14, .inl (d 0, 100, .inl (μ.1.2.2.1 64))), (b 15, .inl (d 3, 100, .inl (μ.1.2.2.1 65))), (b 17, .inr (18, [.int (μ.1.1 70), .ref (b 18), .int (μ.1.1 72)])), (b 18, .inl (d 4, 16, .inr (.inr (.inr (.inr (μ.1.2.2.2.2 18)))))), (b 16, .inr (17, [.ref (b 19), .int (μ.1.1 81), .int (μ.1.1 82)])), (b 19, .inl (d 4, 17, .inr (.inr (.inr (.inr (μ.1.2.2.2.2 19)))))), (o, .inr (9, [.ref on, .int (μ.1.1 90), .int (μ.1.1 91), .ref (b 0)])), (on, .inr (3, [.int t.1, .int t.2.1, .int t.2.2])), (q_19, .inr (10, [.int (0 : Int32), .null, .null, .null, .null, .null, .int (0 : Int32)]))]) (w' := (XW d z b μ.1 ++ [(o, .inr (9, [.ref on, .int (μ.1.1 90), .int (μ.1.1 91), .ref (b 0)])), (on, .inr (3, [.int t.1, .int t.2.1, .int t.2.2])), (q_19, .inr (10, [.int (0 : Int32), .null, .null, .null, .null, .null, .int (0 : Int32)]))])) (va_runV (As := [.int t.2.1]) (rest := [.ref q_19, .ref q_19]) S (keI (tX9_isEnd l D d z K o t.2.1 r_21 h_20 _) H) (cwV 1 hts (lw_V q1299 q1301 qs39 q121 q1302) rfl rfl rfl (by decide +kernel) ⟨(Nat.le_of_ble_eq_true rfl), (Nat.le_of_ble_eq_true rfl)⟩) ⟨kbl Pw.blind, (va_recv hK.1 hP (ci := 9) (q0 := 20) rfl rfl), fun U hU hW => ⟨Pw.cut (w := (XW d z b μ.1 ++ [(o, .inr (9, [.ref on, .int (μ.1.1 90), .int (μ.1.1 91), .ref (b 0)])), (on, .inr (3, [.int t.1, .int t.2.1, .int t.2.2])), (q_19, .inr (10, [.int (0 : Int32), .null, .null, .null, .null, .null, .int (0 : Int32)]))])) (tl := μ.2) hK hP hD hZ hS hA [] rfl rfl hU hW, hU⟩⟩ rfl rfl hl.1 rfl (lv_room (Nat.le_of_ble_eq_true rfl)) dX9_checkSwr_58 ⟨(Nat.le_of_ble_eq_true rfl), (Nat.le_of_ble_eq_true rfl)⟩) hP hD hS hA [] [0, 1, 2, 3, 4, 5, 6, 7, 8, 9, 10, 11, 12, 13, 14, 15, 16, 17, 18, 19, 20, 21, 22] [0, 1, 2, 3, 4, 5, 6, 7, 8, 9, 10, 11, 12, 13, 14, 15, 16, 17, 18, 19, 20, 21, 22] rfl rfl rfl rfl (by decide) rfl rfl ?_
        clear hP hD hS
        intro H locs hP hD hS hk
        replace hN := hN.keep hk
        replace hq_q_19 := hq_q_19.keep hk
        clear hk
        clear h_20
        refine lv_if_eq (tgt := 74) hx hb dX9_checkSwr_61 (by decide) (fun c_22 => ?_) (fun c_22 => ?_)
        · replace hf := it_f hf (bi_e0 c_22)
          clear c_22
          refine lv_aload_n hx hb dX9_checkSwr_74 rfl (lv_at hl 0 rfl) ?_
          refine g_get hx hb hts S.2.2.2.1 hK hP in_X9 20 rfl rfl 0 (by decide) q1273 (fun _ h9 => h9) (v := .ref on) rfl dX9_checkSwr_75 ?_
          refine g_getN hx hb hts S.2.2.2.1 hK hP in_X2 21 rfl rfl 2 (by decide) q190 (fun _ h9 => h9) (v := .int t.2.2) rfl dX9_checkSwr_78 ?_
          refine run_vSM (w := (XW d z b μ.1 ++ [(o, .inr (9, [.ref on, .int (μ.1.1 90), .int (μ.1.1 91), .ref (b 0)])), (on, .inr (3, [.int t.1, .int t.2.1, .int t.2.2])), (q_19, .inr (10, [.int (0 : Int32), .null, .null, .null, .null, .null, .int (0 : Int32)]))])) (tl := μ.2) (wr := [(b 0, .inr (1, [.ref (b 1), .int (μ.1.1 1), .int (μ.1.1 2), .ref (b 2), .ref (b 3), .ref (b 4), va_rf (μ.1.2.2.2.2 6 0), .ref (b 7), .ref (b 13), .ref (b 16), .int (μ.1.1 10)])), (b 1, .inl (d 2, 500, .inl (μ.1.2.2.1 1))), (b 2, .inl (d 5, 2, .inr (.inr (.inr (.inr (fun j => some (z.2.2 j))))))), (b 3, .inl (d 6, 5, .inr (.inr (.inr (.inr (fun j => some (z.2.2 (2 + j)))))))), (b 4, .inr (4, [.int (μ.1.1 20), .long (μ.1.2.1 21), .long (μ.1.2.1 22), .long (μ.1.2.1 23), .ref (b 5), .ref (b 6), .ref (b 0)])), (b 5, .inr (2, [.long (μ.1.2.1 30), .long (μ.1.2.1 31)])), (b 6, .inr (2, [.long (μ.1.2.1 32), .long (μ.1.2.1 33)])), (b 7, .inr (6, [.int (μ.1.1 40), .int (μ.1.1 41), .int (μ.1.1 42), .int (μ.1.1 43), .int (μ.1.1 44), .int (μ.1.1 45), .ref (b 8), .ref (b 9), .ref (b 10), .int (μ.1.1 49), .ref (b 11), .ref (b 12), .int (μ.1.1 52)])), (b 8, .inl (d 0, 16, .inl (μ.1.2.2.1 46))), (b 9, .inl (d 1, 16, .inr (.inl (μ.1.2.2.2.1 47)))), (b 10, .inl (d 1, 16, .inr (.inl (μ.1.2.2.2.1 48)))), (b 11, .inl (d 0, 8, .inl (μ.1.2.2.1 50))), (b 12, .inl (d 0, 8, .inl (μ.1.2.2.1 51))), (b 13, .inr (8, [.int (μ.1.1 60), .int (μ.1.1 61), .int (μ.1.1 62), .int (μ.1.1 63), .ref (b 14), .ref (b 15), .int (μ.1.1 66), .ref (b 17)])), (b 14, .inl (d 0, 100, .inl (μ.1.2.2.1 64))), (b 15, .inl (d 3, 100, .inl (μ.1.2.2.1 65))), (b 17, .inr (18, [.int (μ.1.1 70), .ref (b 18), .int (μ.1.1 72)])), (b 18, .inl (d 4, 16, .inr (.inr (.inr (.inr (μ.1.2.2.2.2 18)))))), (b 16, .inr (17, [.ref (b 19), .int (μ.1.1 81), .int (μ.1.1 82)])), (b 19, .inl (d 4, 17, .inr (.inr (.inr (.inr (μ.1.2.2.2.2 19)))))), (o, .inr (9, [.ref on, .int (μ.1.1 90), .int (μ.1.1 91), .ref (b 0)])), (on, .inr (3, [.int t.1, .int t.2.1, .int t.2.2]))]) (w' := fun u : UU => (XW d z b μ.1 ++ [(o, .inr (9, [.ref on, .int (μ.1.1 90), .int (μ.1.1 91), .ref (b 0)])), (on, .inr (3, [.int t.1, .int t.2.1, .int t.2.2])), (q_19, .inr (10, [.int t.2.2, .null, .null, .null, .null, .null, .int (0 : Int32)]))])) (va_runI (As := [.int t.2.2]) (rest := [.ref q_19]) S (keV (tX11_initn l D d z q_19 t.2.2 _) H) (cwI 1 hts (lw_meth q1313) rfl rfl rfl (hts _ q123) (hts _ q1311) (hts _ q1312) rfl (by decide +kernel) ⟨(Nat.le_of_ble_eq_true rfl), (Nat.le_of_ble_eq_true rfl)⟩) ⟨kbl Pw.blind, fun U hU hW => ⟨Pw.cut (w := (XW d z b μ.1 ++ [(o, .inr (9, [.ref on, .int (μ.1.1 90), .int (μ.1.1 91), .ref (b 0)])), (on, .inr (3, [.int t.1, .int t.2.1, .int t.2.2])), (q_19, .inr (10, [.int (0 : Int32), .null, .null, .null, .null, .null, .int (0 : Int32)]))])) (tl := μ.2) hK hP hD hZ hS hA [22] rfl rfl hU hW, hU⟩⟩ rfl rfl hl.1 rfl (lv_room (Nat.le_of_ble_eq_true rfl)) dX9_checkSwr_81 ⟨(Nat.le_of_ble_eq_true rfl), (Nat.le_of_ble_eq_true rfl)⟩) hP hD hS hA [22] [0, 1, 2, 3, 4, 5, 6, 7, 8, 9, 10, 11, 12, 13, 14, 15, 16, 17, 18, 19, 20, 21] [0, 1, 2, 3, 4, 5, 6, 7, 8, 9, 10, 11, 12, 13, 14, 15, 16, 17, 18, 19, 20, 21, 22] rfl rfl rfl rfl (by decide) rfl (fun _ => rfl) ?_
          clear hP hD hS
          intro u_23 _ H locs hP hD hS hk
          replace hN := hN.keep hk
          replace hq_q_19 := hq_q_19.keep hk
          clear hk
          refine vx_athrow hx hb dX9_checkSwr_84 ?_
          obtain ⟨ζ_24, e_ζ_24⟩ : ∃ x, x = (μ.1, [(q_19, .inr (10, [.int t.2.2, .null, .null, .null, .null, .null, .int (0 : Int32)]))] ++ μ.2) := ⟨_, rfl⟩
          replace hN := MN.eqt (w2 := ζ_24.2) (w := [(q_19, .inr (10, [.int t.2.2, .null, .null, .null, .null, .null, .int (0 : Int32)]))] ++ μ.2) (MN.cons hq_q_19 hN) (by rw [e_ζ_24])
          replace hf := nm_some hf ζ_24 e_ζ_24
          replace hP := kp_P (w := (XW d z b μ.1 ++ [(o, .inr (9, [.ref on, .int (μ.1.1 90), .int (μ.1.1 91), .ref (b 0)])), (on, .inr (3, [.int t.1, .int t.2.1, .int t.2.2]))])) (ks := [(q_19, .inr (10, [.int t.2.2, .null, .null, .null, .null, .null, .int (0 : Int32)]))]) (w' := (XW d z b ζ_24.1 ++ [(o, .inr (9, [.ref on, .int (ζ_24.1.1 90), .int (ζ_24.1.1 91), .ref (b 0)])), (on, .inr (3, [.int t.1, .int t.2.1, .int t.2.2]))])) (t2 := ζ_24.2) (by rw [show ((XW d z b μ.1 ++ [(o, .inr (9, [.ref on, .int (μ.1.1 90), .int (μ.1.1 91), .ref (b 0)])), (on, .inr (3, [.int t.1, .int t.2.1, .int t.2.2]))])) ++ [(q_19, .inr (10, [.int t.2.2, .null, .null, .null, .null, .null, .int (0 : Int32)]))] = (XW d z b μ.1 ++ [(o, .inr (9, [.ref on, .int (μ.1.1 90), .int (μ.1.1 91), .ref (b 0)])), (on, .inr (3, [.int t.1, .int t.2.1, .int t.2.2])), (q_19, .inr (10, [.int t.2.2, .null, .null, .null, .null, .null, .int (0 : Int32)]))]) from rfl]; exact hP) (by subst e_ζ_24; rfl) (by subst e_ζ_24; rfl)
          replace hD := kp_D (w := (XW d z b μ.1 ++ [(o, .inr (9, [.ref on, .int (μ.1.1 90), .int (μ.1.1 91), .ref (b 0)])), (on, .inr (3, [.int t.1, .int t.2.1, .int t.2.2]))])) (ks := [(q_19, .inr (10, [.int t.2.2, .null, .null, .null, .null, .null, .int (0 : Int32)]))]) (w' := (XW d z b ζ_24.1 ++ [(o, .inr (9, [.ref on, .int (ζ_24.1.1 90), .int (ζ_24.1.1 91), .ref (b 0)])), (on, .inr (3, [.int t.1, .int t.2.1, .int t.2.2]))])) (t2 := ζ_24.2) (by rw [show ((XW d z b μ.1 ++ [(o, .inr (9, [.ref on, .int (μ.1.1 90), .int (μ.1.1 91), .ref (b 0)])), (on, .inr (3, [.int t.1, .int t.2.1, .int t.2.2]))])) ++ [(q_19, .inr (10, [.int t.2.2, .null, .null, .null, .null, .null, .int (0 : Int32)]))] = (XW d z b μ.1 ++ [(o, .inr (9, [.ref on, .int (μ.1.1 90), .int (μ.1.1 91), .ref (b 0)])), (on, .inr (3, [.int t.1, .int t.2.1, .int t.2.2])), (q_19, .inr (10, [.int t.2.2, .null, .null, .null, .null, .null, .int (0 : Int32)]))]) from rfl]; exact hD) (by subst e_ζ_24; rfl) (by subst e_ζ_24; rfl)
          have m_q_19 : (q_19, (.inr (10, [.int t.2.2, .null, .null, .null, .null, .null, .int (0 : Int32)]) : va_E)) ∈ ζ_24.2 := by subst e_ζ_24; exact List.mem_append_left _ (List.mem_of_getElem? (i := 0) rfl)
          clear e_ζ_24
          refine vx_widen (k := 1) (n := 7) (Nat.le_of_ble_eq_true rfl) (Nat.le_of_ble_eq_true rfl) ?_
          exact hthr _ _ _ _ _ _ _ _ _ hf hP hD hS hN ⟨_, List.mem_append_right _ m_q_19⟩
        · replace hf := it_t hf (bi_n0 c_22)
          clear c_22
          refine lv_aload_n hx hb dX9_checkSwr_64 rfl (lv_at hl 0 rfl) ?_
          refine g_get hx hb hts S.2.2.2.1 hK hP in_X9 20 rfl rfl 0 (by decide) q1273 (fun _ h9 => h9) (v := .ref on) rfl dX9_checkSwr_65 ?_
          refine g_getN hx hb hts S.2.2.2.1 hK hP in_X2 21 rfl rfl 1 (by decide) q187 (fun _ h9 => h9) (v := .int t.2.1) rfl dX9_checkSwr_68 ?_
          refine lv_goto (tgt := 81) hx hb dX9_checkSwr_71 (by decide) ?_
          refine run_vSM (w := (XW d z b μ.1 ++ [(o, .inr (9, [.ref on, .int (μ.1.1 90), .int (μ.1.1 91), .ref (b 0)])), (on, .inr (3, [.int t.1, .int t.2.1, .int t.2.2])), (q_19, .inr (10, [.int (0 : Int32), .null, .null, .null, .null, .null, .int (0 : Int32)]))])) (tl := μ.2) (wr := [(b 0, .inr (1, [.ref (b 1), .int (μ.1.1 1), .int (μ.1.1 2), .ref (b 2), .ref (b 3), .ref (b 4), va_rf (μ.1.2.2.2.2 6 0), .ref (b 7), .ref (b 13), .ref (b 16), .int (μ.1.1 10)])), (b 1, .inl (d 2, 500, .inl (μ.1.2.2.1 1))), (b 2, .inl (d 5, 2, .inr (.inr (.inr (.inr (fun j => some (z.2.2 j))))))), (b 3, .inl (d 6, 5, .inr (.inr (.inr (.inr (fun j => some (z.2.2 (2 + j)))))))), (b 4, .inr (4, [.int (μ.1.1 20), .long (μ.1.2.1 21), .long (μ.1.2.1 22), .long (μ.1.2.1 23), .ref (b 5), .ref (b 6), .ref (b 0)])), (b 5, .inr (2, [.long (μ.1.2.1 30), .long (μ.1.2.1 31)])), (b 6, .inr (2, [.long (μ.1.2.1 32), .long (μ.1.2.1 33)])), (b 7, .inr (6, [.int (μ.1.1 40), .int (μ.1.1 41), .int (μ.1.1 42), .int (μ.1.1 43), .int (μ.1.1 44), .int (μ.1.1 45), .ref (b 8), .ref (b 9), .ref (b 10), .int (μ.1.1 49), .ref (b 11), .ref (b 12), .int (μ.1.1 52)])), (b 8, .inl (d 0, 16, .inl (μ.1.2.2.1 46))), (b 9, .inl (d 1, 16, .inr (.inl (μ.1.2.2.2.1 47)))), (b 10, .inl (d 1, 16, .inr (.inl (μ.1.2.2.2.1 48)))), (b 11, .inl (d 0, 8, .inl (μ.1.2.2.1 50))), (b 12, .inl (d 0, 8, .inl (μ.1.2.2.1 51))), (b 13, .inr (8, [.int (μ.1.1 60), .int (μ.1.1 61), .int (μ.1.1 62), .int (μ.1.1 63), .ref (b 14), .ref (b 15), .int (μ.1.1 66), .ref (b 17)])), (b 14, .inl (d 0, 100, .inl (μ.1.2.2.1 64))), (b 15, .inl (d 3, 100, .inl (μ.1.2.2.1 65))), (b 17, .inr (18, [.int (μ.1.1 70), .ref (b 18), .int (μ.1.1 72)])), (b 18, .inl (d 4, 16, .inr (.inr (.inr (.inr (μ.1.2.2.2.2 18)))))), (b 16, .inr (17, [.ref (b 19), .int (μ.1.1 81), .int (μ.1.1 82)])), (b 19, .inl (d 4, 17, .inr (.inr (.inr (.inr (μ.1.2.2.2.2 19)))))), (o, .inr (9, [.ref on, .int (μ.1.1 90), .int (μ.1.1 91), .ref (b 0)])), (on, .inr (3, [.int t.1, .int t.2.1, .int t.2.2]))]) (w' := fun u : UU => (XW d z b μ.1 ++ [(o, .inr (9, [.ref on, .int (μ.1.1 90), .int (μ.1.1 91), .ref (b 0)])), (on, .inr (3, [.int t.1, .int t.2.1, .int t.2.2])), (q_19, .inr (10, [.int t.2.1, .null, .null, .null, .null, .null, .int (0 : Int32)]))])) (va_runI (As := [.int t.2.1]) (rest := [.ref q_19]) S (keV (tX11_initn l D d z q_19 t.2.1 _) H) (cwI 1 hts (lw_meth q1313) rfl rfl rfl (hts _ q123) (hts _ q1311) (hts _ q1312) rfl (by decide +kernel) ⟨(Nat.le_of_ble_eq_true rfl), (Nat.le_of_ble_eq_true rfl)⟩) ⟨kbl Pw.blind, fun U hU hW => ⟨Pw.cut (w := (XW d z b μ.1 ++ [(o, .inr (9, [.ref on, .int (μ.1.1 90), .int (μ.1.1 91), .ref (b 0)])), (on, .inr (3, [.int t.1, .int t.2.1, .int t.2.2])), (q_19, .inr (10, [.int (0 : Int32), .null, .null, .null, .null, .null, .int (0 : Int32)]))])) (tl := μ.2) hK hP hD hZ hS hA [22] rfl rfl hU hW, hU⟩⟩ rfl rfl hl.1 rfl (lv_room (Nat.le_of_ble_eq_true rfl)) dX9_checkSwr_81 ⟨(Nat.le_of_ble_eq_true rfl), (Nat.le_of_ble_eq_true rfl)⟩) hP hD hS hA [22] [0, 1, 2, 3, 4, 5, 6, 7, 8, 9, 10, 11, 12, 13, 14, 15, 16, 17, 18, 19, 20, 21] [0, 1, 2, 3, 4, 5, 6, 7, 8, 9, 10, 11, 12, 13, 14, 15, 16, 17, 18, 19, 20, 21, 22] rfl rfl rfl rfl (by decide) rfl (fun _ => rfl) ?_
          clear hP hD hS
          intro u_25 _ H locs hP hD hS hk
          replace hN := hN.keep hk
          replace hq_q_19 := hq_q_19.keep hk
          clear hk
          refine vx_athrow hx hb dX9_checkSwr_84 ?_
          obtain ⟨ζ_26, e_ζ_26⟩ : ∃ x, x = (μ.1, [(q_19, .inr (10, [.int t.2.1, .null, .null, .null, .null, .null, .int (0 : Int32)]))] ++ μ.2) := ⟨_, rfl⟩
          replace hN := MN.eqt (w2 := ζ_26.2) (w := [(q_19, .inr (10, [.int t.2.1, .null, .null, .null, .null, .null, .int (0 : Int32)]))] ++ μ.2) (MN.cons hq_q_19 hN) (by rw [e_ζ_26])
          replace hf := nm_some hf ζ_26 e_ζ_26
          replace hP := kp_P (w := (XW d z b μ.1 ++ [(o, .inr (9, [.ref on, .int (μ.1.1 90), .int (μ.1.1 91), .ref (b 0)])), (on, .inr (3, [.int t.1, .int t.2.1, .int t.2.2]))])) (ks := [(q_19, .inr (10, [.int t.2.1, .null, .null, .null, .null, .null, .int (0 : Int32)]))]) (w' := (XW d z b ζ_26.1 ++ [(o, .inr (9, [.ref on, .int (ζ_26.1.1 90), .int (ζ_26.1.1 91), .ref (b 0)])), (on, .inr (3, [.int t.1, .int t.2.1, .int t.2.2]))])) (t2 := ζ_26.2) (by rw [show ((XW d z b μ.1 ++ [(o, .inr (9, [.ref on, .int (μ.1.1 90), .int (μ.1.1 91), .ref (b 0)])), (on, .inr (3, [.int t.1, .int t.2.1, .int t.2.2]))])) ++ [(q_19, .inr (10, [.int t.2.1, .null, .null, .null, .null, .null, .int (0 : Int32)]))] = (XW d z b μ.1 ++ [(o, .inr (9, [.ref on, .int (μ.1.1 90), .int (μ.1.1 91), .ref (b 0)])), (on, .inr (3, [.int t.1, .int t.2.1, .int t.2.2])), (q_19, .inr (10, [.int t.2.1, .null, .null, .null, .null, .null, .int (0 : Int32)]))]) from rfl]; exact hP) (by subst e_ζ_26; rfl) (by subst e_ζ_26; rfl)
          replace hD := kp_D (w := (XW d z b μ.1 ++ [(o, .inr (9, [.ref on, .int (μ.1.1 90), .int (μ.1.1 91), .ref (b 0)])), (on, .inr (3, [.int t.1, .int t.2.1, .int t.2.2]))])) (ks := [(q_19, .inr (10, [.int t.2.1, .null, .null, .null, .null, .null, .int (0 : Int32)]))]) (w' := (XW d z b ζ_26.1 ++ [(o, .inr (9, [.ref on, .int (ζ_26.1.1 90), .int (ζ_26.1.1 91), .ref (b 0)])), (on, .inr (3, [.int t.1, .int t.2.1, .int t.2.2]))])) (t2 := ζ_26.2) (by rw [show ((XW d z b μ.1 ++ [(o, .inr (9, [.ref on, .int (μ.1.1 90), .int (μ.1.1 91), .ref (b 0)])), (on, .inr (3, [.int t.1, .int t.2.1, .int t.2.2]))])) ++ [(q_19, .inr (10, [.int t.2.1, .null, .null, .null, .null, .null, .int (0 : Int32)]))] = (XW d z b μ.1 ++ [(o, .inr (9, [.ref on, .int (μ.1.1 90), .int (μ.1.1 91), .ref (b 0)])), (on, .inr (3, [.int t.1, .int t.2.1, .int t.2.2])), (q_19, .inr (10, [.int t.2.1, .null, .null, .null, .null, .null, .int (0 : Int32)]))]) from rfl]; exact hD) (by subst e_ζ_26; rfl) (by subst e_ζ_26; rfl)
          have m_q_19 : (q_19, (.inr (10, [.int t.2.1, .null, .null, .null, .null, .null, .int (0 : Int32)]) : va_E)) ∈ ζ_26.2 := by subst e_ζ_26; exact List.mem_append_left _ (List.mem_of_getElem? (i := 0) rfl)
          clear e_ζ_26
          refine vx_widen (k := 1) (n := 7) (Nat.le_of_ble_eq_true rfl) (Nat.le_of_ble_eq_true rfl) ?_
          exact hthr _ _ _ _ _ _ _ _ _ hf hP hD hS hN ⟨_, List.mem_append_right _ m_q_19⟩
  · replace hf := itU_f hf c_1
    clear c_1
    replace hf := hf (fun _ => 0)
    refine W.widen (k := 1) (n := 7) (Nat.le_of_ble_eq_true rfl) (Nat.le_of_ble_eq_true rfl) ?_
    exact hret _ _ _ _ _ _ _ hf dX9_checkSwr_17 hP hD hS hN
noncomputable def fX9_checkVoltage (K : Nat) (d : Nat → ClassId) (t : (Int32 × Int32 × Int32)) (u : UU) (μ : XT) : Option (XR Unit XT) :=
  b1 (fX2_codeq K (t.1, t.2.1, t.2.2)) fun r_2 =>
  b1 (fX3_lay K r_2 (μ.1.1 60) μ.1) fun ζ_4 =>
  nm ((xmrg μ.1 ζ_4, μ.2)) fun ζ_5 =>
  b2 (fX3_isOverloaded K ζ_5.1) fun r_7 ζ_8 =>
  nm ((xmrg ζ_5.1 ζ_8, ζ_5.2)) fun ζ_9 =>
  if r_7 = true then
    b2 (fX3_efficiency K ζ_9.1) fun r_12 ζ_13 =>
    nm ((xmrg ζ_9.1 ζ_13, ζ_9.2)) fun ζ_14 =>
    if (500 : Int32) ≤ r_12 then
      ask u fun q_16 u =>
      b2 (fX3_voltage K ζ_14.1) fun r_18 ζ_19 =>
      nm ((xmrg ζ_14.1 ζ_19, ζ_14.2)) fun ζ_20 =>
      nm ((ζ_20.1, [(q_16, .inr (12, [.int r_18, .null, .null, .null, .null, .null, .int (0 : Int32)]))] ++ ζ_20.2)) fun ζ_22 =>
      some (.inl (12, q_16, ζ_22))
    else
      ask u fun q_23 u =>
      b2 (fX3_voltage K ζ_14.1) fun r_25 ζ_26 =>
      nm ((xmrg ζ_14.1 ζ_26, ζ_14.2)) fun ζ_27 =>
      ask u fun q_28 u =>
      b2 (fX3_efficiency K ζ_27.1) fun r_30 ζ_31 =>
      nm ((xmrg ζ_27.1 ζ_31, ζ_27.2)) fun ζ_32 =>
      nm ((ζ_32.1, [(q_23, .inr (12, [.int r_25, .ref q_28, .null, .null, .null, .null, .int (0 : Int32)])), (q_28, .inr (13, [.int r_30, .null, .null, .null, .null, .null, .int (0 : Int32)]))] ++ ζ_32.2)) fun ζ_35 =>
      some (.inl (12, q_23, ζ_35))
  else
    some (.inr ((), ζ_9))
set_option maxHeartbeats 4000000 in
set_option maxRecDepth 100000 in
theorem tX9_checkVoltage (l : Launch) (D : va_G) (d : Nat → ClassId) (z : ZT) (b : Nat → Nat) (K : Nat) (o : Nat) (on : Nat) (t : (Int32 × Int32 × Int32)) (μ : XT) (y : UU → XR Unit XT) (hf : ∀ u, fX9_checkVoltage K d t u μ = some (y u)) : CVXM l yX9_checkVoltage (ws_ yX9_checkVoltage cX9_checkVoltage 2 (Option.none : Option Jvm.ClassFile.FieldType)) (rmc 6 2 14 132) D d z [.ref o] ((XW d z b μ.1 ++ [(o, .inr (9, [.ref on, .int (μ.1.1 90), .int (μ.1.1 91), .ref (b 0)])), (on, .inr (3, [.int t.1, .int t.2.1, .int t.2.2]))]) ++ μ.2) (fun u : UU × XT => (XW d z b u.2.1 ++ [(o, .inr (9, [.ref on, .int (u.2.1.1 90), .int (u.2.1.1 91), .ref (b 0)])), (on, .inr (3, [.int t.1, .int t.2.1, .int t.2.2]))]) ++ u.2.2) (fun u => y u.1 = .inr ((), u.2)) (fun u : UU × Nat × Nat × XT => (u.2.1, u.2.2.1)) (fun u => (XW d z b u.2.2.2.1 ++ [(o, .inr (9, [.ref on, .int (u.2.2.2.1.1 90), .int (u.2.2.2.1.1 91), .ref (b 0)])), (on, .inr (3, [.int t.1, .int t.2.1, .int t.2.2]))]) ++ u.2.2.2.2) (fun u => y u.1 = .inl u.2) μ.2 (fun u => u.2.2) (fun u => u.2.2.2.2) := by
  refine CVXM.of (own := RX9) rfl (by decide) (Nat.le_of_ble_eq_true rfl) ?_
  intro p e s m args below meth c A Q ls S hin hK hP hD hZ hS hA hl hret0 hthr0
  have hret : ∀ (U0 : UU) (x : Unit) (μx : XT) (H : Heap) (locs : List Loc) (pc : Nat) (ls' : Array Slot), some (Sum.inr (x, μx)) = some (y U0) → decode cX9_checkVoltage pc = .ok (.return_, 1) → va_P D CL ((XW d z b μx.1 ++ [(o, .inr (9, [.ref on, .int (μx.1.1 90), .int (μx.1.1 91), .ref (b 0)])), (on, .inr (3, [.int t.1, .int t.2.1, .int t.2.2]))]) ++ μx.2) H → va_D A ((XW d z b μx.1 ++ [(o, .inr (9, [.ref on, .int (μx.1.1 90), .int (μx.1.1 91), .ref (b 0)])), (on, .inr (3, [.int t.1, .int t.2.1, .int t.2.2]))]) ++ μx.2) → va_S A s.heap H locs → MN μ.2 μx.2 H → W p l e (rmc 6 2 14 132) s m args below meth c H locs 2 14 Q (F0 m pc ls' []) := by
    intro U0 x μx H locs pc ls' h9 hdg hP hD hS hN
    exact hret0 (U0, μx) (Option.some.inj h9).symm H locs pc ls' hdg hP hD hS hN
  have hthr : ∀ (U0 : UU) (c9 q9 : Nat) (μx : XT) (H : Heap) (locs : List Loc) (pc : Nat) (ls' : Array Slot) (st' : List Value), some (Sum.inl (c9, q9, μx)) = some (y U0) → va_P D CL ((XW d z b μx.1 ++ [(o, .inr (9, [.ref on, .int (μx.1.1 90), .int (μx.1.1 91), .ref (b 0)])), (on, .inr (3, [.int t.1, .int t.2.1, .int t.2.2]))]) ++ μx.2) H → va_D A ((XW d z b μx.1 ++ [(o, .inr (9, [.ref on, .int (μx.1.1 90), .int (μx.1.1 91), .ref (b 0)])), (on, .inr (3, [.int t.1, .int t.2.1, .int t.2.2]))]) ++ μx.2) → va_S A s.heap H locs → MN μ.2 μx.2 H → (∃ fs, (q9, (.inr (c9, fs) : va_E)) ∈ (XW d z b μx.1 ++ [(o, .inr (9, [.ref on, .int (μx.1.1 90), .int (μx.1.1 91), .ref (b 0)])), (on, .inr (3, [.int t.1, .int t.2.1, .int t.2.2]))]) ++ μx.2) → vx_W p l e (rmc 6 2 14 132) s m args below meth c H locs 2 14 Q (F0 m pc ls' st') q9 := by
    intro U0 c9 q9 μx H locs pc ls' st' h9 hP hD hS hN hm
    exact hthr0 (U0, c9, q9, μx) (Option.some.inj h9).symm H locs pc ls' st' hP hD hS hN hm
  have hx := S.1
  have hb := S.2.1
  have hts := S.2.2.2.2
  have hl : lv_has ls 2 [(0, .ref o)] := hl
  unfold fX9_checkVoltage at hf
  have hN : MN μ.2 μ.2 s.heap := MN.rf
  refine lv_aload_n hx hb dX9_checkVoltage_0 rfl (lv_at hl 0 rfl) ?_
  refine g_get hx hb hts S.2.2.2.1 hK hP in_X9 20 rfl rfl 3 (by decide) q1279 (fun _ h9 => h9) (v := .ref (b 0)) rfl dX9_checkVoltage_1 ?_
  refine g_getN hx hb hts S.2.2.2.1 hK hP in_X0 0 rfl rfl 5 (by decide) q287 (fun _ h9 => h9) (v := .ref (b 4)) rfl dX9_checkVoltage_4 ?_
  refine lv_aload_n hx hb dX9_checkVoltage_7 rfl (lv_at hl 0 rfl) ?_
  refine g_get hx hb hts S.2.2.2.1 hK hP in_X9 20 rfl rfl 0 (by decide) q1273 (fun _ h9 => h9) (v := .ref on) rfl dX9_checkVoltage_8 ?_
  obtain ⟨r_2, h_1, hf⟩ := b1U hf
  refine run_iM (w := (XW d z b μ.1 ++ [(o, .inr (9, [.ref on, .int (μ.1.1 90), .int (μ.1.1 91), .ref (b 0)])), (on, .inr (3, [.int t.1, .int t.2.1, .int t.2.2]))])) (tl := μ.2) (wr := [(b 0, .inr (1, [.ref (b 1), .int (μ.1.1 1), .int (μ.1.1 2), .ref (b 2), .ref (b 3), .ref (b 4), va_rf (μ.1.2.2.2.2 6 0), .ref (b 7), .ref (b 13), .ref (b 16), .int (μ.1.1 10)])), (b 1, .inl (d 2, 500, .inl (μ.1.2.2.1 1))), (b 2, .inl (d 5, 2, .inr (.inr (.inr (.inr (fun j => some (z.2.2 j))))))), (b 3, .inl (d 6, 5, .inr (.inr (.inr (.inr (fun j => some (z.2.2 (2 + j)))))))), (b 4, .inr (4, [.int (μ.1.1 20), .long (μ.1.2.1 21), .long (μ.1.2.1 22), .long (μ.1.2.1 23), .ref (b 5), .ref (b 6), .ref (b 0)])), (b 5, .inr (2, [.long (μ.1.2.1 30), .long (μ.1.2.1 31)])), (b 6, .inr (2, [.long (μ.1.2.1 32), .long (μ.1.2.1 33)])), (b 7, .inr (6, [.int (μ.1.1 40), .int (μ.1.1 41), .int (μ.1.1 42), .int (μ.1.1 43), .int (μ.1.1 44), .int (μ.1.1 45), .ref (b 8), .ref (b 9), .ref (b 10), .int (μ.1.1 49), .ref (b 11), .ref (b 12), .int (μ.1.1 52)])), (b 8, .inl (d 0, 16, .inl (μ.1.2.2.1 46))), (b 9, .inl (d 1, 16, .inr (.inl (μ.1.2.2.2.1 47)))), (b 10, .inl (d 1, 16, .inr (.inl (μ.1.2.2.2.1 48)))), (b 11, .inl (d 0, 8, .inl (μ.1.2.2.1 50))), (b 12, .inl (d 0, 8, .inl (μ.1.2.2.1 51))), (b 13, .inr (8, [.int (μ.1.1 60), .int (μ.1.1 61), .int (μ.1.1 62), .int (μ.1.1 63), .ref (b 14), .ref (b 15), .int (μ.1.1 66), .ref (b 17)])), (b 14, .inl (d 0, 100, .inl (μ.1.2.2.1 64))), (b 15, .inl (d 3, 100, .inl (μ.1.2.2.1 65))), (b 17, .inr (18, [.int (μ.1.1 70), .ref (b 18), .int (μ.1.1 72)])), (b 18, .inl (d 4, 16, .inr (.inr (.inr (.inr (μ.1.2.2.2.2 18)))))), (b 16, .inr (17, [.ref (b 19), .int (μ.1.1 81), .int (μ.1.1 82)])), (b 19, .inl (d 4, 17, .inr (.inr (.inr (.inr (μ.1.2.2.2.2 19)))))), (o, .inr (9, [.ref on, .int (μ.1.1 90), .int (μ.1.1 91), .ref (b 0)]))]) (w' := (XW d z b μ.1 ++ [(o, .inr (9, [.ref on, .int (μ.1.1 90), .int (μ.1.1 91), .ref (b 0)])), (on, .inr (3, [.int t.1, .int t.2.1, .int t.2.2]))])) (va_runV (As := []) (rest := [.ref (b 4)]) S (keI (tX2_codeq l D d z on K (t.1, t.2.1, t.2.2) r_2 h_1 _) s.heap) (cwV 0 hts (lw_V q1257 q1049 q1050 q97 q1051) rfl rfl rfl (by decide +kernel) ⟨(Nat.le_of_ble_eq_true rfl), (Nat.le_of_ble_eq_true rfl)⟩) ⟨kbl Pw.blind, (va_recv hK.1 hP (ci := 3) (q0 := 21) rfl rfl), fun U hU hW => ⟨Pw.cut (w := (XW d z b μ.1 ++ [(o, .inr (9, [.ref on, .int (μ.1.1 90), .int (μ.1.1 91), .ref (b 0)])), (on, .inr (3, [.int t.1, .int t.2.1, .int t.2.2]))])) (tl := μ.2) hK hP hD hZ hS hA [21] rfl rfl hU hW, hU⟩⟩ rfl rfl hl.1 rfl (lv_room (Nat.le_of_ble_eq_true rfl)) dX9_checkVoltage_11 ⟨(Nat.le_of_ble_eq_true rfl), (Nat.le_of_ble_eq_true rfl)⟩) hP hD hS hA [21] [0, 1, 2, 3, 4, 5, 6, 7, 8, 9, 10, 11, 12, 13, 14, 15, 16, 17, 18, 19, 20] [0, 1, 2, 3, 4, 5, 6, 7, 8, 9, 10, 11, 12, 13, 14, 15, 16, 17, 18, 19, 20, 21] rfl rfl rfl rfl (by decide) rfl rfl ?_
  clear hP hD hS
  intro H locs hP hD hS hk
  replace hN := hN.keep hk
  clear hk
  clear h_1
  refine lv_aload_n hx hb dX9_checkVoltage_14 rfl (lv_at hl 0 rfl) ?_
  refine g_get hx hb hts S.2.2.2.1 hK hP in_X9 20 rfl rfl 3 (by decide) q1279 (fun _ h9 => h9) (v := .ref (b 0)) rfl dX9_checkVoltage_15 ?_
  refine g_getN hx hb hts S.2.2.2.1 hK hP in_X0 0 rfl rfl 8 (by decide) q292 (fun _ h9 => h9) (v := .ref (b 13)) rfl dX9_checkVoltage_18 ?_
  refine g_getN hx hb hts S.2.2.2.1 hK hP in_X8 13 rfl rfl 0 (by decide) q809 (fun _ h9 => h9) (v := .int (μ.1.1 60)) rfl dX9_checkVoltage_21 ?_
  obtain ⟨ζ_4, h_3, hf⟩ := b1U hf
  obtain ⟨ζ_5, e_ζ_5⟩ : ∃ x, x = (xmrg μ.1 ζ_4, μ.2) := ⟨_, rfl⟩
  replace hN := hN.eqt (w2 := ζ_5.2) (by rw [e_ζ_5])
  refine run_rSM (w := (XW d z b μ.1 ++ [(o, .inr (9, [.ref on, .int (μ.1.1 90), .int (μ.1.1 91), .ref (b 0)])), (on, .inr (3, [.int t.1, .int t.2.1, .int t.2.2]))])) (tl := μ.2) (wr := [(b 17, .inr (18, [.int (μ.1.1 70), .ref (b 18), .int (μ.1.1 72)])), (b 18, .inl (d 4, 16, .inr (.inr (.inr (.inr (μ.1.2.2.2.2 18)))))), (b 16, .inr (17, [.ref (b 19), .int (μ.1.1 81), .int (μ.1.1 82)])), (b 19, .inl (d 4, 17, .inr (.inr (.inr (.inr (μ.1.2.2.2.2 19)))))), (o, .inr (9, [.ref on, .int (μ.1.1 90), .int (μ.1.1 91), .ref (b 0)])), (on, .inr (3, [.int t.1, .int t.2.1, .int t.2.2]))]) (w' := fun _ => (XW d z b ζ_5.1 ++ [(o, .inr (9, [.ref on, .int (ζ_5.1.1 90), .int (ζ_5.1.1 91), .ref (b 0)])), (on, .inr (3, [.int t.1, .int t.2.1, .int t.2.2]))])) (va_runV (As := [.int r_2, .int (μ.1.1 60)]) (rest := []) S (keR (tX3_lay l D d z b (μ.1.2.2.2.2 6 0) K r_2 (μ.1.1 60) μ.1 ζ_4 h_3 _) H) (cwV 2 hts (lw_V q1344 q1098 q1099 q98 q1100) rfl rfl rfl (by decide +kernel) ⟨(Nat.le_of_ble_eq_true rfl), (Nat.le_of_ble_eq_true rfl)⟩) ⟨kbl Pw.blind, (va_recv hK.1 hP (ci := 4) (q0 := 4) rfl rfl), fun U hU hW => ⟨Pw.cut (w := (XW d z b μ.1 ++ [(o, .inr (9, [.ref on, .int (μ.1.1 90), .int (μ.1.1 91), .ref (b 0)])), (on, .inr (3, [.int t.1, .int t.2.1, .int t.2.2]))])) (tl := μ.2) hK hP hD hZ hS hA [0, 1, 2, 3, 4, 5, 6, 7, 8, 9, 10, 11, 12, 13, 14, 15] rfl rfl hU hW, hU⟩⟩ rfl rfl hl.1 rfl (lv_room (Nat.le_of_ble_eq_true rfl)) dX9_checkVoltage_24 ⟨(Nat.le_of_ble_eq_true rfl), (Nat.le_of_ble_eq_true rfl)⟩) hP hD hS hA [0, 1, 2, 3, 4, 5, 6, 7, 8, 9, 10, 11, 12, 13, 14, 15] [16, 17, 18, 19, 20, 21] [6, 7, 8, 9, 10, 11, 12, 13, 14, 15, 16, 17, 18, 19, 20, 21, 0, 1, 2, 3, 4, 5] rfl rfl rfl rfl (by decide) rfl (fun _ => by subst e_ζ_5; rfl) ?_
  clear hP hD hS
  intro _ _ H locs hP hD hS hk
  replace hN := hN.keep hk
  clear hk
  rw [show μ.2 = ζ_5.2 from by subst e_ζ_5; rfl] at hP hD
  clear h_3
  replace hf := nmU hf ζ_5 e_ζ_5
  clear e_ζ_5
  refine lv_pop hx hb dX9_checkVoltage_27 rfl ?_
  refine lv_aload_n hx hb dX9_checkVoltage_28 rfl (lv_at hl 0 rfl) ?_
  refine g_get hx hb hts S.2.2.2.1 hK hP in_X9 20 rfl rfl 3 (by decide) q1279 (fun _ h9 => h9) (v := .ref (b 0)) rfl dX9_checkVoltage_29 ?_
  refine g_getN hx hb hts S.2.2.2.1 hK hP in_X0 0 rfl rfl 5 (by decide) q287 (fun _ h9 => h9) (v := .ref (b 4)) rfl dX9_checkVoltage_32 ?_
  obtain ⟨r_7, ζ_8, h_6, hf⟩ := b2U hf
  obtain ⟨ζ_9, e_ζ_9⟩ : ∃ x, x = (xmrg ζ_5.1 ζ_8, ζ_5.2) := ⟨_, rfl⟩
  replace hN := hN.eqt (w2 := ζ_9.2) (by rw [e_ζ_9])
  refine run_iM (w := (XW d z b ζ_5.1 ++ [(o, .inr (9, [.ref on, .int (ζ_5.1.1 90), .int (ζ_5.1.1 91), .ref (b 0)])), (on, .inr (3, [.int t.1, .int t.2.1, .int t.2.2]))])) (tl := ζ_5.2) (wr := [(b 17, .inr (18, [.int (ζ_5.1.1 70), .ref (b 18), .int (ζ_5.1.1 72)])), (b 18, .inl (d 4, 16, .inr (.inr (.inr (.inr (ζ_5.1.2.2.2.2 18)))))), (b 16, .inr (17, [.ref (b 19), .int (ζ_5.1.1 81), .int (ζ_5.1.1 82)])), (b 19, .inl (d 4, 17, .inr (.inr (.inr (.inr (ζ_5.1.2.2.2.2 19)))))), (o, .inr (9, [.ref on, .int (ζ_5.1.1 90), .int (ζ_5.1.1 91), .ref (b 0)])), (on, .inr (3, [.int t.1, .int t.2.1, .int t.2.2]))]) (w' := (XW d z b ζ_9.1 ++ [(o, .inr (9, [.ref on, .int (ζ_9.1.1 90), .int (ζ_9.1.1 91), .ref (b 0)])), (on, .inr (3, [.int t.1, .int t.2.1, .int t.2.2]))])) (va_runV (As := []) (rest := []) S (keI (tX3_isOverloaded l D d z b (ζ_5.1.2.2.2.2 6 0) K ζ_5.1 r_7 ζ_8 h_6 _) H) (cwV 0 hts (lw_V q1345 q1210 q1211 q98 q1212) rfl rfl rfl (by decide +kernel) ⟨(Nat.le_of_ble_eq_true rfl), (Nat.le_of_ble_eq_true rfl)⟩) ⟨kbl Pw.blind, (va_recv hK.1 hP (ci := 4) (q0 := 4) rfl rfl), fun U hU hW => ⟨Pw.cut (w := (XW d z b ζ_5.1 ++ [(o, .inr (9, [.ref on, .int (ζ_5.1.1 90), .int (ζ_5.1.1 91), .ref (b 0)])), (on, .inr (3, [.int t.1, .int t.2.1, .int t.2.2]))])) (tl := ζ_5.2) hK hP hD hZ hS hA [0, 1, 2, 3, 4, 5, 6, 7, 8, 9, 10, 11, 12, 13, 14, 15] rfl rfl hU hW, hU⟩⟩ rfl rfl hl.1 rfl (lv_room (Nat.le_of_ble_eq_true rfl)) dX9_checkVoltage_35 ⟨(Nat.le_of_ble_eq_true rfl), (Nat.le_of_ble_eq_true rfl)⟩) hP hD hS hA [0, 1, 2, 3, 4, 5, 6, 7, 8, 9, 10, 11, 12, 13, 14, 15] [16, 17, 18, 19, 20, 21] [6, 7, 8, 9, 10, 11, 12, 13, 14, 15, 16, 17, 18, 19, 20, 21, 0, 1, 2, 3, 4, 5] rfl rfl rfl rfl (by decide) rfl (by subst e_ζ_9; rfl) ?_
  clear hP hD hS
  intro H locs hP hD hS hk
  replace hN := hN.keep hk
  clear hk
  rw [show ζ_5.2 = ζ_9.2 from by subst e_ζ_9; rfl] at hP hD
  clear h_6
  replace hf := nmU hf ζ_9 e_ζ_9
  clear e_ζ_9
  refine lv_if_eq (tgt := 106) hx hb dX9_checkVoltage_38 (by decide) (fun c_10 => ?_) (fun c_10 => ?_)
  · replace hf := itU_f hf (bi_e0 c_10)
    clear c_10
    replace hf := hf (fun _ => 0)
    refine W.widen (k := 2) (n := 14) (Nat.le_of_ble_eq_true rfl) (Nat.le_of_ble_eq_true rfl) ?_
    exact hret _ _ _ _ _ _ _ hf dX9_checkVoltage_106 hP hD hS hN
  · replace hf := itU_t hf (bi_n0 c_10)
    clear c_10
    refine lv_aload_n hx hb dX9_checkVoltage_41 rfl (lv_at hl 0 rfl) ?_
    refine g_get hx hb hts S.2.2.2.1 hK hP in_X9 20 rfl rfl 3 (by decide) q1279 (fun _ h9 => h9) (v := .ref (b 0)) rfl dX9_checkVoltage_42 ?_
    refine g_getN hx hb hts S.2.2.2.1 hK hP in_X0 0 rfl rfl 5 (by decide) q287 (fun _ h9 => h9) (v := .ref (b 4)) rfl dX9_checkVoltage_45 ?_
    obtain ⟨r_12, ζ_13, h_11, hf⟩ := b2U hf
    obtain ⟨ζ_14, e_ζ_14⟩ : ∃ x, x = (xmrg ζ_9.1 ζ_13, ζ_9.2) := ⟨_, rfl⟩
    replace hN := hN.eqt (w2 := ζ_14.2) (by rw [e_ζ_14])
    refine run_iM (w := (XW d z b ζ_9.1 ++ [(o, .inr (9, [.ref on, .int (ζ_9.1.1 90), .int (ζ_9.1.1 91), .ref (b 0)])), (on, .inr (3, [.int t.1, .int t.2.1, .int t.2.2]))])) (tl := ζ_9.2) (wr := [(b 17, .inr (18, [.int (ζ_9.1.1 70), .ref (b 18), .int (ζ_9.1.1 72)])), (b 18, .inl (d 4, 16, .inr (.inr (.inr (.inr (ζ_9.1.2.2.2.2 18)))))), (b 16, .inr (17, [.ref (b 19), .int (ζ_9.1.1 81), .int (ζ_9.1.1 82)])), (b 19, .inl (d 4, 17, .inr (.inr (.inr (.inr (ζ_9.1.2.2.2.2 19)))))), (o, .inr (9, [.ref on, .int (ζ_9.1.1 90), .int (ζ_9.1.1 91), .ref (b 0)])), (on, .inr (3, [.int t.1, .int t.2.1, .int t.2.2]))]) (w' := (XW d z b ζ_14.1 ++ [(o, .inr (9, [.ref on, .int (ζ_14.1.1 90), .int (ζ_14.1.1 91), .ref (b 0)])), (on, .inr (3, [.int t.1, .int t.2.1, .int t.2.2]))])) (va_runV (As := []) (rest := []) S (keI (tX3_efficiency l D d z b (ζ_9.1.2.2.2.2 6 0) K ζ_9.1 r_12 ζ_13 h_11 _) H) (cwV 0 hts (lw_V q1346 q1157 q1158 q98 q1159) rfl rfl rfl (by decide +kernel) ⟨(Nat.le_of_ble_eq_true rfl), (Nat.le_of_ble_eq_true rfl)⟩) ⟨kbl Pw.blind, (va_recv hK.1 hP (ci := 4) (q0 := 4) rfl rfl), fun U hU hW => ⟨Pw.cut (w := (XW d z b ζ_9.1 ++ [(o, .inr (9, [.ref on, .int (ζ_9.1.1 90), .int (ζ_9.1.1 91), .ref (b 0)])), (on, .inr (3, [.int t.1, .int t.2.1, .int t.2.2]))])) (tl := ζ_9.2) hK hP hD hZ hS hA [0, 1, 2, 3, 4, 5, 6, 7, 8, 9, 10, 11, 12, 13, 14, 15] rfl rfl hU hW, hU⟩⟩ rfl rfl hl.1 rfl (lv_room (Nat.le_of_ble_eq_true rfl)) dX9_checkVoltage_48 ⟨(Nat.le_of_ble_eq_true rfl), (Nat.le_of_ble_eq_true rfl)⟩) hP hD hS hA [0, 1, 2, 3, 4, 5, 6, 7, 8, 9, 10, 11, 12, 13, 14, 15] [16, 17, 18, 19, 20, 21] [6, 7, 8, 9, 10, 11, 12, 13, 14, 15, 16, 17, 18, 19, 20, 21, 0, 1, 2, 3, 4, 5] rfl rfl rfl rfl (by decide) rfl (by subst e_ζ_14; rfl) ?_
    clear hP hD hS
    intro H locs hP hD hS hk
    replace hN := hN.keep hk
    clear hk
    rw [show ζ_9.2 = ζ_14.2 from by subst e_ζ_14; rfl] at hP hD
    clear h_11
    replace hf := nmU hf ζ_14 e_ζ_14
    clear e_ζ_14
    refine lv_sipush (v := 500) hx hb dX9_checkVoltage_51 (by decide) ?_
    refine lv_icmp_ge (tgt := 61) hx hb dX9_checkVoltage_54 (by decide) (fun c_15 => ?_) (fun c_15 => ?_)
    · replace hf := itU_t hf c_15
      clear c_15
      refine lv_iconst (v := 0) hx hb dX9_checkVoltage_61 (by decide) ?_
      refine lv_istore_n (lv' := [(1, .int (0 : Int32)), (0, .ref o)]) hx hb dX9_checkVoltage_62 rfl hl (by decide) rfl (fun ls hl => ?_)
      refine g_newTM (w := (XW d z b ζ_14.1 ++ [(o, .inr (9, [.ref on, .int (ζ_14.1.1 90), .int (ζ_14.1.1 91), .ref (b 0)])), (on, .inr (3, [.int t.1, .int t.2.1, .int t.2.2]))])) (tl := ζ_14.2) hx hb hts S.2.2.2.1 hK hP hD hS hA (ci := 12) in_X13 tyX13 tyX13_ok q1294 q1347 q125 rfl (fs := [.int (0 : Int32), .null, .null, .null, .null, .null, .int (0 : Int32)]) (fun j hj => by rcases (show j = 0 ∨ j = 1 ∨ j = 2 ∨ j = 3 ∨ j = 4 ∨ j = 5 ∨ j = 6 by omega) with rfl | rfl | rfl | rfl | rfl | rfl | rfl <;> rfl) (Nat.le_of_ble_eq_true rfl) (Nat.le_of_ble_eq_true rfl) (w1 := fun q => (XW d z b ζ_14.1 ++ [(o, .inr (9, [.ref on, .int (ζ_14.1.1 90), .int (ζ_14.1.1 91), .ref (b 0)])), (on, .inr (3, [.int t.1, .int t.2.1, .int t.2.2])), (q, .inr (12, [.int (0 : Int32), .null, .null, .null, .null, .null, .int (0 : Int32)]))])) (fun _ => rfl) dX9_checkVoltage_63 ?_
      clear hP hD hS
      intro q_16 H hP hD hS hk hq_q_16
      replace hN := hN.keep hk
      clear hk
      replace hf := askU hf q_16
      refine lv_dup hx hb dX9_checkVoltage_66 rfl ?_
      refine lv_aload_n hx hb dX9_checkVoltage_67 rfl (lv_at hl 1 rfl) ?_
      refine g_get hx hb hts S.2.2.2.1 hK hP in_X9 20 rfl rfl 3 (by decide) q1279 (fun _ h9 => h9) (v := .ref (b 0)) rfl dX9_checkVoltage_68 ?_
      refine g_getN hx hb hts S.2.2.2.1 hK hP in_X0 0 rfl rfl 5 (by decide) q287 (fun _ h9 => h9) (v := .ref (b 4)) rfl dX9_checkVoltage_71 ?_
      obtain ⟨r_18, ζ_19, h_17, hf⟩ := b2U hf
      obtain ⟨ζ_20, e_ζ_20⟩ : ∃ x, x = (xmrg ζ_14.1 ζ_19, ζ_14.2) := ⟨_, rfl⟩
      replace hN := hN.eqt (w2 := ζ_20.2) (by rw [e_ζ_20])
      refine run_iM (w := (XW d z b ζ_14.1 ++ [(o, .inr (9, [.ref on, .int (ζ_14.1.1 90), .int (ζ_14.1.1 91), .ref (b 0)])), (on, .inr (3, [.int t.1, .int t.2.1, .int t.2.2])), (q_16, .inr (12, [.int (0 : Int32), .null, .null, .null, .null, .null, .int (0 : Int32)]))])) (tl := ζ_14.2) (wr := [(b 17, .inr (18, [.int (ζ_14.1.1 70), .ref (b 18), .int (ζ_14.1.1 72)])), (b 18, .inl (d 4, 16, .inr (.inr (.inr (.inr (ζ_14.1.2.2.2.2 18)))))), (b 16, .inr (17, [.ref (b 19), .int (ζ_14.1.1 81), .int (ζ_14.1.1 82)])), (b 19, .inl (d 4, 17, .inr (.inr (.inr (.inr (ζ_14.1.2.2.2.2 19)))))), (o, .inr (9, [.ref on, .int (ζ_14.1.1 90), .int (ζ_14.1.1 91), .ref (b 0)])), (on, .inr (3, [.int t.1, .int t.2.1, .int t.2.2])), (q_16, .inr (12, [.int (0 : Int32), .null, .null, .null, .null, .null, .int (0 : Int32)]))]) (w' := (XW d z b ζ_20.1 ++ [(o, .inr (9, [.ref on, .int (ζ_20.1.1 90), .int (ζ_20.1.1 91), .ref (b 0)])), (on, .inr (3, [.int t.1, .int t.2.1, .int t.2.2])), (q_16, .inr (12, [.int (0 : Int32), .null, .null, .null, .null, .null, .int (0 : Int32)]))])) (va_runV (As := []) (rest := [.ref q_16, .ref q_16]) S (keI (tX3_voltage l D d z b (ζ_14.1.2.2.2.2 6 0) K ζ_14.1 r_18 ζ_19 h_17 _) H) (cwV 0 hts (lw_V q1355 q1166 q1167 q98 q1168) rfl rfl rfl (by decide +kernel) ⟨(Nat.le_of_ble_eq_true rfl), (Nat.le_of_ble_eq_true rfl)⟩) ⟨kbl Pw.blind, (va_recv hK.1 hP (ci := 4) (q0 := 4) rfl rfl), fun U hU hW => ⟨Pw.cut (w := (XW d z b ζ_14.1 ++ [(o, .inr (9, [.ref on, .int (ζ_14.1.1 90), .int (ζ_14.1.1 91), .ref (b 0)])), (on, .inr (3, [.int t.1, .int t.2.1, .int t.2.2])), (q_16, .inr (12, [.int (0 : Int32), .null, .null, .null, .null, .null, .int (0 : Int32)]))])) (tl := ζ_14.2) hK hP hD hZ hS hA [0, 1, 2, 3, 4, 5, 6, 7, 8, 9, 10, 11, 12, 13, 14, 15] rfl rfl hU hW, hU⟩⟩ rfl rfl hl.1 rfl (lv_room (Nat.le_of_ble_eq_true rfl)) dX9_checkVoltage_74 ⟨(Nat.le_of_ble_eq_true rfl), (Nat.le_of_ble_eq_true rfl)⟩) hP hD hS hA [0, 1, 2, 3, 4, 5, 6, 7, 8, 9, 10, 11, 12, 13, 14, 15] [16, 17, 18, 19, 20, 21, 22] [7, 8, 9, 10, 11, 12, 13, 14, 15, 16, 17, 18, 19, 20, 21, 22, 0, 1, 2, 3, 4, 5, 6] rfl rfl rfl rfl (by decide) rfl (by subst e_ζ_20; rfl) ?_
      clear hP hD hS
      intro H locs hP hD hS hk
      replace hN := hN.keep hk
      replace hq_q_16 := hq_q_16.keep hk
      clear hk
      rw [show ζ_14.2 = ζ_20.2 from by subst e_ζ_20; rfl] at hP hD
      clear h_17
      replace hf := nmU hf ζ_20 e_ζ_20
      clear e_ζ_20
      refine lv_iload_n hx hb dX9_checkVoltage_77 rfl (lv_at hl 0 rfl) ?_
      refine lv_if_eq (tgt := 101) hx hb dX9_checkVoltage_78 (by decide) (fun hc => ?_) (fun hc => absurd (by decide) hc)
      clear hc
      replace hf := hf (fun _ => 0)
      refine lv_null hx hb dX9_checkVoltage_101 ?_
      refine run_vSM (w := (XW d z b ζ_20.1 ++ [(o, .inr (9, [.ref on, .int (ζ_20.1.1 90), .int (ζ_20.1.1 91), .ref (b 0)])), (on, .inr (3, [.int t.1, .int t.2.1, .int t.2.2])), (q_16, .inr (12, [.int (0 : Int32), .null, .null, .null, .null, .null, .int (0 : Int32)]))])) (tl := ζ_20.2) (wr := [(b 0, .inr (1, [.ref (b 1), .int (ζ_20.1.1 1), .int (ζ_20.1.1 2), .ref (b 2), .ref (b 3), .ref (b 4), va_rf (ζ_20.1.2.2.2.2 6 0), .ref (b 7), .ref (b 13), .ref (b 16), .int (ζ_20.1.1 10)])), (b 1, .inl (d 2, 500, .inl (ζ_20.1.2.2.1 1))), (b 2, .inl (d 5, 2, .inr (.inr (.inr (.inr (fun j => some (z.2.2 j))))))), (b 3, .inl (d 6, 5, .inr (.inr (.inr (.inr (fun j => some (z.2.2 (2 + j)))))))), (b 4, .inr (4, [.int (ζ_20.1.1 20), .long (ζ_20.1.2.1 21), .long (ζ_20.1.2.1 22), .long (ζ_20.1.2.1 23), .ref (b 5), .ref (b 6), .ref (b 0)])), (b 5, .inr (2, [.long (ζ_20.1.2.1 30), .long (ζ_20.1.2.1 31)])), (b 6, .inr (2, [.long (ζ_20.1.2.1 32), .long (ζ_20.1.2.1 33)])), (b 7, .inr (6, [.int (ζ_20.1.1 40), .int (ζ_20.1.1 41), .int (ζ_20.1.1 42), .int (ζ_20.1.1 43), .int (ζ_20.1.1 44), .int (ζ_20.1.1 45), .ref (b 8), .ref (b 9), .ref (b 10), .int (ζ_20.1.1 49), .ref (b 11), .ref (b 12), .int (ζ_20.1.1 52)])), (b 8, .inl (d 0, 16, .inl (ζ_20.1.2.2.1 46))), (b 9, .inl (d 1, 16, .inr (.inl (ζ_20.1.2.2.2.1 47)))), (b 10, .inl (d 1, 16, .inr (.inl (ζ_20.1.2.2.2.1 48)))), (b 11, .inl (d 0, 8, .inl (ζ_20.1.2.2.1 50))), (b 12, .inl (d 0, 8, .inl (ζ_20.1.2.2.1 51))), (b 13, .inr (8, [.int (ζ_20.1.1 60), .int (ζ_20.1.1 61), .int (ζ_20.1.1 62), .int (ζ_20.1.1 63), .ref (b 14), .ref (b 15), .int (ζ_20.1.1 66), .ref (b 17)])), (b 14, .inl (d 0, 100, .inl (ζ_20.1.2.2.1 64))), (b 15, .inl (d 3, 100, .inl (ζ_20.1.2.2.1 65))), (b 17, .inr (18, [.int (ζ_20.1.1 70), .ref (b 18), .int (ζ_20.1.1 72)])), (b 18, .inl (d 4, 16, .inr (.inr (.inr (.inr (ζ_20.1.2.2.2.2 18)))))), (b 16, .inr (17, [.ref (b 19), .int (ζ_20.1.1 81), .int (ζ_20.1.1 82)])), (b 19, .inl (d 4, 17, .inr (.inr (.inr (.inr (ζ_20.1.2.2.2.2 19)))))), (o, .inr (9, [.ref on, .int (ζ_20.1.1 90), .int (ζ_20.1.1 91), .ref (b 0)])), (on, .inr (3, [.int t.1, .int t.2.1, .int t.2.2]))]) (w' := fun u : UU => (XW d z b ζ_20.1 ++ [(o, .inr (9, [.ref on, .int (ζ_20.1.1 90), .int (ζ_20.1.1 91), .ref (b 0)])), (on, .inr (3, [.int t.1, .int t.2.1, .int t.2.2])), (q_16, .inr (12, [.int r_18, .null, .null, .null, .null, .null, .int (0 : Int32)]))])) (va_runI (As := [.int r_18, .null]) (rest := [.ref q_16]) S (keV (tX13_initn l D d z q_16 r_18 _) H) (cwI 2 hts (lw_meth q1374) rfl rfl rfl (hts _ q125) (hts _ q1372) (hts _ q1373) rfl (by decide +kernel) ⟨(Nat.le_of_ble_eq_true rfl), (Nat.le_of_ble_eq_true rfl)⟩) ⟨kbl Pw.blind, fun U hU hW => ⟨Pw.cut (w := (XW d z b ζ_20.1 ++ [(o, .inr (9, [.ref on, .int (ζ_20.1.1 90), .int (ζ_20.1.1 91), .ref (b 0)])), (on, .inr (3, [.int t.1, .int t.2.1, .int t.2.2])), (q_16, .inr (12, [.int (0 : Int32), .null, .null, .null, .null, .null, .int (0 : Int32)]))])) (tl := ζ_20.2) hK hP hD hZ hS hA [22] rfl rfl hU hW, hU⟩⟩ rfl rfl hl.1 rfl (lv_room (Nat.le_of_ble_eq_true rfl)) dX9_checkVoltage_102 ⟨(Nat.le_of_ble_eq_true rfl), (Nat.le_of_ble_eq_true rfl)⟩) hP hD hS hA [22] [0, 1, 2, 3, 4, 5, 6, 7, 8, 9, 10, 11, 12, 13, 14, 15, 16, 17, 18, 19, 20, 21] [0, 1, 2, 3, 4, 5, 6, 7, 8, 9, 10, 11, 12, 13, 14, 15, 16, 17, 18, 19, 20, 21, 22] rfl rfl rfl rfl (by decide) rfl (fun _ => rfl) ?_
      clear hP hD hS
      intro u_21 _ H locs hP hD hS hk
      replace hN := hN.keep hk
      replace hq_q_16 := hq_q_16.keep hk
      clear hk
      refine vx_athrow hx hb dX9_checkVoltage_105 ?_
      obtain ⟨ζ_22, e_ζ_22⟩ : ∃ x, x = (ζ_20.1, [(q_16, .inr (12, [.int r_18, .null, .null, .null, .null, .null, .int (0 : Int32)]))] ++ ζ_20.2) := ⟨_, rfl⟩
      replace hN := MN.eqt (w2 := ζ_22.2) (w := [(q_16, .inr (12, [.int r_18, .null, .null, .null, .null, .null, .int (0 : Int32)]))] ++ ζ_20.2) (MN.cons hq_q_16 hN) (by rw [e_ζ_22])
      replace hf := nm_some hf ζ_22 e_ζ_22
      replace hP := kp_P (w := (XW d z b ζ_20.1 ++ [(o, .inr (9, [.ref on, .int (ζ_20.1.1 90), .int (ζ_20.1.1 91), .ref (b 0)])), (on, .inr (3, [.int t.1, .int t.2.1, .int t.2.2]))])) (ks := [(q_16, .inr (12, [.int r_18, .null, .null, .null, .null, .null, .int (0 : Int32)]))]) (w' := (XW d z b ζ_22.1 ++ [(o, .inr (9, [.ref on, .int (ζ_22.1.1 90), .int (ζ_22.1.1 91), .ref (b 0)])), (on, .inr (3, [.int t.1, .int t.2.1, .int t.2.2]))])) (t2 := ζ_22.2) (by rw [show ((XW d z b ζ_20.1 ++ [(o, .inr (9, [.ref on, .int (ζ_20.1.1 90), .int (ζ_20.1.1 91), .ref (b 0)])), (on, .inr (3, [.int t.1, .int t.2.1, .int t.2.2]))])) ++ [(q_16, .inr (12, [.int r_18, .null, .null, .null, .null, .null, .int (0 : Int32)]))] = (XW d z b ζ_20.1 ++ [(o, .inr (9, [.ref on, .int (ζ_20.1.1 90), .int (ζ_20.1.1 91), .ref (b 0)])), (on, .inr (3, [.int t.1, .int t.2.1, .int t.2.2])), (q_16, .inr (12, [.int r_18, .null, .null, .null, .null, .null, .int (0 : Int32)]))]) from rfl]; exact hP) (by subst e_ζ_22; rfl) (by subst e_ζ_22; rfl)
      replace hD := kp_D (w := (XW d z b ζ_20.1 ++ [(o, .inr (9, [.ref on, .int (ζ_20.1.1 90), .int (ζ_20.1.1 91), .ref (b 0)])), (on, .inr (3, [.int t.1, .int t.2.1, .int t.2.2]))])) (ks := [(q_16, .inr (12, [.int r_18, .null, .null, .null, .null, .null, .int (0 : Int32)]))]) (w' := (XW d z b ζ_22.1 ++ [(o, .inr (9, [.ref on, .int (ζ_22.1.1 90), .int (ζ_22.1.1 91), .ref (b 0)])), (on, .inr (3, [.int t.1, .int t.2.1, .int t.2.2]))])) (t2 := ζ_22.2) (by rw [show ((XW d z b ζ_20.1 ++ [(o, .inr (9, [.ref on, .int (ζ_20.1.1 90), .int (ζ_20.1.1 91), .ref (b 0)])), (on, .inr (3, [.int t.1, .int t.2.1, .int t.2.2]))])) ++ [(q_16, .inr (12, [.int r_18, .null, .null, .null, .null, .null, .int (0 : Int32)]))] = (XW d z b ζ_20.1 ++ [(o, .inr (9, [.ref on, .int (ζ_20.1.1 90), .int (ζ_20.1.1 91), .ref (b 0)])), (on, .inr (3, [.int t.1, .int t.2.1, .int t.2.2])), (q_16, .inr (12, [.int r_18, .null, .null, .null, .null, .null, .int (0 : Int32)]))]) from rfl]; exact hD) (by subst e_ζ_22; rfl) (by subst e_ζ_22; rfl)
      have m_q_16 : (q_16, (.inr (12, [.int r_18, .null, .null, .null, .null, .null, .int (0 : Int32)]) : va_E)) ∈ ζ_22.2 := by subst e_ζ_22; exact List.mem_append_left _ (List.mem_of_getElem? (i := 0) rfl)
      clear e_ζ_22
      refine vx_widen (k := 2) (n := 14) (Nat.le_of_ble_eq_true rfl) (Nat.le_of_ble_eq_true rfl) ?_
      exact hthr _ _ _ _ _ _ _ _ _ hf hP hD hS hN ⟨_, List.mem_append_right _ m_q_16⟩
    · replace hf := itU_f hf c_15
      clear c_15
      refine lv_iconst (v := 1) hx hb dX9_checkVoltage_57 (by decide) ?_
      refine lv_goto (tgt := 62) hx hb dX9_checkVoltage_58 (by decide) ?_
      refine lv_istore_n (lv' := [(1, .int (1 : Int32)), (0, .ref o)]) hx hb dX9_checkVoltage_62 rfl hl (by decide) rfl (fun ls hl => ?_)
      refine g_newTM (w := (XW d z b ζ_14.1 ++ [(o, .inr (9, [.ref on, .int (ζ_14.1.1 90), .int (ζ_14.1.1 91), .ref (b 0)])), (on, .inr (3, [.int t.1, .int t.2.1, .int t.2.2]))])) (tl := ζ_14.2) hx hb hts S.2.2.2.1 hK hP hD hS hA (ci := 12) in_X13 tyX13 tyX13_ok q1294 q1347 q125 rfl (fs := [.int (0 : Int32), .null, .null, .null, .null, .null, .int (0 : Int32)]) (fun j hj => by rcases (show j = 0 ∨ j = 1 ∨ j = 2 ∨ j = 3 ∨ j = 4 ∨ j = 5 ∨ j = 6 by omega) with rfl | rfl | rfl | rfl | rfl | rfl | rfl <;> rfl) (Nat.le_of_ble_eq_true rfl) (Nat.le_of_ble_eq_true rfl) (w1 := fun q => (XW d z b ζ_14.1 ++ [(o, .inr (9, [.ref on, .int (ζ_14.1.1 90), .int (ζ_14.1.1 91), .ref (b 0)])), (on, .inr (3, [.int t.1, .int t.2.1, .int t.2.2])), (q, .inr (12, [.int (0 : Int32), .null, .null, .null, .null, .null, .int (0 : Int32)]))])) (fun _ => rfl) dX9_checkVoltage_63 ?_
      clear hP hD hS
      intro q_23 H hP hD hS hk hq_q_23
      replace hN := hN.keep hk
      clear hk
      replace hf := askU hf q_23
      refine lv_dup hx hb dX9_checkVoltage_66 rfl ?_
      refine lv_aload_n hx hb dX9_checkVoltage_67 rfl (lv_at hl 1 rfl) ?_
      refine g_get hx hb hts S.2.2.2.1 hK hP in_X9 20 rfl rfl 3 (by decide) q1279 (fun _ h9 => h9) (v := .ref (b 0)) rfl dX9_checkVoltage_68 ?_
      refine g_getN hx hb hts S.2.2.2.1 hK hP in_X0 0 rfl rfl 5 (by decide) q287 (fun _ h9 => h9) (v := .ref (b 4)) rfl dX9_checkVoltage_71 ?_
      obtain ⟨r_25, ζ_26, h_24, hf⟩ := b2U hf
      obtain ⟨ζ_27, e_ζ_27⟩ : ∃ x, x = (xmrg ζ_14.1 ζ_26, ζ_14.2) := ⟨_, rfl⟩
      replace hN := hN.eqt (w2 := ζ_27.2) (by rw [e_ζ_27])
      refine run_iM (w := (XW d z b ζ_14.1 ++ [(o, .inr (9, [.ref on, .int (ζ_14.1.1 90), .int (ζ_14.1.1 91), .ref (b 0)])), (on, .inr (3, [.int t.1, .int t.2.1, .int t.2.2])), (q_23, .inr (12, [.int (0 : Int32), .null, .null, .null, .null, .null, .int (0 : Int32)]))])) (tl := ζ_14.2) (wr := [(b 17, .inr (18, [.int (ζ_14.1.1 70), .ref (b 18), .int (ζ_14.1.1 72)])), (b 18, .inl (d 4, 16, .inr (.inr (.inr (.inr (ζ_14.1.2.2.2.2 18)))))), (b 16, .inr (17, [.ref (b 19), .int (ζ_14.1.1 81), .int (ζ_14.1.1 82)])), (b 19, .inl (d 4, 17, .inr (.inr (.inr (.inr (ζ_14.1.2.2.2.2 19)))))), (o, .inr (9, [.ref on, .int (ζ_14.1.1 90), .int (ζ_14.1.1 91), .ref (b 0)])), (on, .inr (3, [.int t.1, .int t.2.1, .int t.2.2])), (q_23, .inr (12, [.int (0 : Int32), .null, .null, .null, .null, .null, .int (0 : Int32)]))]) (w' := (XW d z b ζ_27.1 ++ [(o, .inr (9, [.ref on, .int (ζ_27.1.1 90), .int (ζ_27.1.1 91), .ref (b 0)])), (on, .inr (3, [.int t.1, .int t.2.1, .int t.2.2])), (q_23, .inr (12, [.int (0 : Int32), .null, .null, .null, .null, .null, .int (0 : Int32)]))])) (va_runV (As := []) (rest := [.ref q_23, .ref q_23]) S (keI (tX3_voltage l D d z b (ζ_14.1.2.2.2.2 6 0) K ζ_14.1 r_25 ζ_26 h_24 _) H) (cwV 0 hts (lw_V q1355 q1166 q1167 q98 q1168) rfl rfl rfl (by decide +kernel) ⟨(Nat.le_of_ble_eq_true rfl), (Nat.le_of_ble_eq_true rfl)⟩) ⟨kbl Pw.blind, (va_recv hK.1 hP (ci := 4) (q0 := 4) rfl rfl), fun U hU hW => ⟨Pw.cut (w := (XW d z b ζ_14.1 ++ [(o, .inr (9, [.ref on, .int (ζ_14.1.1 90), .int (ζ_14.1.1 91), .ref (b 0)])), (on, .inr (3, [.int t.1, .int t.2.1, .int t.2.2])), (q_23, .inr (12, [.int (0 : Int32), .null, .null, .null, .null, .null, .int (0 : Int32)]))])) (tl := ζ_14.2) hK hP hD hZ hS hA [0, 1, 2, 3, 4, 5, 6, 7, 8, 9, 10, 11, 12, 13, 14, 15] rfl rfl hU hW, hU⟩⟩ rfl rfl hl.1 rfl (lv_room (Nat.le_of_ble_eq_true rfl)) dX9_checkVoltage_74 ⟨(Nat.le_of_ble_eq_true rfl), (Nat.le_of_ble_eq_true rfl)⟩) hP hD hS hA [0, 1, 2, 3, 4, 5, 6, 7, 8, 9, 10, 11, 12, 13, 14, 15] [16, 17, 18, 19, 20, 21, 22] [7, 8, 9, 10, 11, 12, 13, 14, 15, 16, 17, 18, 19, 20, 21, 22, 0, 1, 2, 3, 4, 5, 6] rfl rfl rfl rfl (by decide) rfl (by subst e_ζ_27; rfl) ?_
      clear hP hD hS
      intro H locs hP hD hS hk
      replace hN := hN.keep hk
      replace hq_q_23 := hq_q_23.keep hk
      clear hk
      rw [show ζ_14.2 = ζ_27.2 from by subst e_ζ_27; rfl] at hP hD
      clear h_24
      replace hf := nmU hf ζ_27 e_ζ_27
      clear e_ζ_27
      refine lv_iload_n hx hb dX9_checkVoltage_77 rfl (lv_at hl 0 rfl) ?_
      refine lv_if_eq (tgt := 101) hx hb dX9_checkVoltage_78 (by decide) (fun hc => absurd hc (by decide)) (fun hc => ?_)
      clear hc
      refine g_newTM (w := (XW d z b ζ_27.1 ++ [(o, .inr (9, [.ref on, .int (ζ_27.1.1 90), .int (ζ_27.1.1 91), .ref (b 0)])), (on, .inr (3, [.int t.1, .int t.2.1, .int t.2.2])), (q_23, .inr (12, [.int (0 : Int32), .null, .null, .null, .null, .null, .int (0 : Int32)]))])) (tl := ζ_27.2) hx hb hts S.2.2.2.1 hK hP hD hS hA (ci := 13) in_X14 tyX14 tyX14_ok q1356 q1357 q126 rfl (fs := [.int (0 : Int32), .null, .null, .null, .null, .null, .int (0 : Int32)]) (fun j hj => by rcases (show j = 0 ∨ j = 1 ∨ j = 2 ∨ j = 3 ∨ j = 4 ∨ j = 5 ∨ j = 6 by omega) with rfl | rfl | rfl | rfl | rfl | rfl | rfl <;> rfl) (Nat.le_of_ble_eq_true rfl) (Nat.le_of_ble_eq_true rfl) (w1 := fun q => (XW d z b ζ_27.1 ++ [(o, .inr (9, [.ref on, .int (ζ_27.1.1 90), .int (ζ_27.1.1 91), .ref (b 0)])), (on, .inr (3, [.int t.1, .int t.2.1, .int t.2.2])), (q_23, .inr (12, [.int (0 : Int32), .null, .null, .null, .null, .null, .int (0 : Int32)])), (q, .inr (13, [.int (0 : Int32), .null, .null, .null, .null, .null, .int (0 : Int32)]))])) (fun _ => rfl) dX9_checkVoltage_81 ?_
      clear hP hD hS
      intro q_28 H hP hD hS hk hq_q_28
      replace hN := hN.keep hk
      replace hq_q_23 := hq_q_23.keep hk
      clear hk
      replace hf := askU hf q_28
      replace hf := hf (fun _ => 0)
      refine lv_dup hx hb dX9_checkVoltage_84 rfl ?_
      refine lv_aload_n hx hb dX9_checkVoltage_85 rfl (lv_at hl 1 rfl) ?_
      refine g_get hx hb hts S.2.2.2.1 hK hP in_X9 20 rfl rfl 3 (by decide) q1279 (fun _ h9 => h9) (v := .ref (b 0)) rfl dX9_checkVoltage_86 ?_
      refine g_getN hx hb hts S.2.2.2.1 hK hP in_X0 0 rfl rfl 5 (by decide) q287 (fun _ h9 => h9) (v := .ref (b 4)) rfl dX9_checkVoltage_89 ?_
      obtain ⟨r_30, ζ_31, h_29, hf⟩ := b2_some hf
      obtain ⟨ζ_32, e_ζ_32⟩ : ∃ x, x = (xmrg ζ_27.1 ζ_31, ζ_27.2) := ⟨_, rfl⟩
      replace hN := hN.eqt (w2 := ζ_32.2) (by rw [e_ζ_32])
      refine run_iM (w := (XW d z b ζ_27.1 ++ [(o, .inr (9, [.ref on, .int (ζ_27.1.1 90), .int (ζ_27.1.1 91), .ref (b 0)])), (on, .inr (3, [.int t.1, .int t.2.1, .int t.2.2])), (q_23, .inr (12, [.int (0 : Int32), .null, .null, .null, .null, .null, .int (0 : Int32)])), (q_28, .inr (13, [.int (0 : Int32), .null, .null, .null, .null, .null, .int (0 : Int32)]))])) (tl := ζ_27.2) (wr := [(b 17, .inr (18, [.int (ζ_27.1.1 70), .ref (b 18), .int (ζ_27.1.1 72)])), (b 18, .inl (d 4, 16, .inr (.inr (.inr (.inr (ζ_27.1.2.2.2.2 18)))))), (b 16, .inr (17, [.ref (b 19), .int (ζ_27.1.1 81), .int (ζ_27.1.1 82)])), (b 19, .inl (d 4, 17, .inr (.inr (.inr (.inr (ζ_27.1.2.2.2.2 19)))))), (o, .inr (9, [.ref on, .int (ζ_27.1.1 90), .int (ζ_27.1.1 91), .ref (b 0)])), (on, .inr (3, [.int t.1, .int t.2.1, .int t.2.2])), (q_23, .inr (12, [.int (0 : Int32), .null, .null, .null, .null, .null, .int (0 : Int32)])), (q_28, .inr (13, [.int (0 : Int32), .null, .null, .null, .null, .null, .int (0 : Int32)]))]) (w' := (XW d z b ζ_32.1 ++ [(o, .inr (9, [.ref on, .int (ζ_32.1.1 90), .int (ζ_32.1.1 91), .ref (b 0)])), (on, .inr (3, [.int t.1, .int t.2.1, .int t.2.2])), (q_23, .inr (12, [.int (0 : Int32), .null, .null, .null, .null, .null, .int (0 : Int32)])), (q_28, .inr (13, [.int (0 : Int32), .null, .null, .null, .null, .null, .int (0 : Int32)]))])) (va_runV (As := []) (rest := [.ref q_28, .ref q_28, .int r_25, .ref q_23, .ref q_23]) S (keI (tX3_efficiency l D d z b (ζ_27.1.2.2.2.2 6 0) K ζ_27.1 r_30 ζ_31 h_29 _) H) (cwV 0 hts (lw_V q1346 q1157 q1158 q98 q1159) rfl rfl rfl (by decide +kernel) ⟨(Nat.le_of_ble_eq_true rfl), (Nat.le_of_ble_eq_true rfl)⟩) ⟨kbl Pw.blind, (va_recv hK.1 hP (ci := 4) (q0 := 4) rfl rfl), fun U hU hW => ⟨Pw.cut (w := (XW d z b ζ_27.1 ++ [(o, .inr (9, [.ref on, .int (ζ_27.1.1 90), .int (ζ_27.1.1 91), .ref (b 0)])), (on, .inr (3, [.int t.1, .int t.2.1, .int t.2.2])), (q_23, .inr (12, [.int (0 : Int32), .null, .null, .null, .null, .null, .int (0 : Int32)])), (q_28, .inr (13, [.int (0 : Int32), .null, .null, .null, .null, .null, .int (0 : Int32)]))])) (tl := ζ_27.2) hK hP hD hZ hS hA [0, 1, 2, 3, 4, 5, 6, 7, 8, 9, 10, 11, 12, 13, 14, 15] rfl rfl hU hW, hU⟩⟩ rfl rfl hl.1 rfl (lv_room (Nat.le_of_ble_eq_true rfl)) dX9_checkVoltage_92 ⟨(Nat.le_of_ble_eq_true rfl), (Nat.le_of_ble_eq_true rfl)⟩) hP hD hS hA [0, 1, 2, 3, 4, 5, 6, 7, 8, 9, 10, 11, 12, 13, 14, 15] [16, 17, 18, 19, 20, 21, 22, 23] [8, 9, 10, 11, 12, 13, 14, 15, 16, 17, 18, 19, 20, 21, 22, 23, 0, 1, 2, 3, 4, 5, 6, 7] rfl rfl rfl rfl (by decide) rfl (by subst e_ζ_32; rfl) ?_
      clear hP hD hS
      intro H locs hP hD hS hk
      replace hN := hN.keep hk
      replace hq_q_23 := hq_q_23.keep hk
      replace hq_q_28 := hq_q_28.keep hk
      clear hk
      rw [show ζ_27.2 = ζ_32.2 from by subst e_ζ_32; rfl] at hP hD
      clear h_29
      replace hf := nm_some hf ζ_32 e_ζ_32
      clear e_ζ_32
      refine run_vSM (w := (XW d z b ζ_32.1 ++ [(o, .inr (9, [.ref on, .int (ζ_32.1.1 90), .int (ζ_32.1.1 91), .ref (b 0)])), (on, .inr (3, [.int t.1, .int t.2.1, .int t.2.2])), (q_23, .inr (12, [.int (0 : Int32), .null, .null, .null, .null, .null, .int (0 : Int32)])), (q_28, .inr (13, [.int (0 : Int32), .null, .null, .null, .null, .null, .int (0 : Int32)]))])) (tl := ζ_32.2) (wr := [(b 0, .inr (1, [.ref (b 1), .int (ζ_32.1.1 1), .int (ζ_32.1.1 2), .ref (b 2), .ref (b 3), .ref (b 4), va_rf (ζ_32.1.2.2.2.2 6 0), .ref (b 7), .ref (b 13), .ref (b 16), .int (ζ_32.1.1 10)])), (b 1, .inl (d 2, 500, .inl (ζ_32.1.2.2.1 1))), (b 2, .inl (d 5, 2, .inr (.inr (.inr (.inr (fun j => some (z.2.2 j))))))), (b 3, .inl (d 6, 5, .inr (.inr (.inr (.inr (fun j => some (z.2.2 (2 + j)))))))), (b 4, .inr (4, [.int (ζ_32.1.1 20), .long (ζ_32.1.2.1 21), .long (ζ_32.1.2.1 22), .long (ζ_32.1.2.1 23), .ref (b 5), .ref (b 6), .ref (b 0)])), (b 5, .inr (2, [.long (ζ_32.1.2.1 30), .long (ζ_32.1.2.1 31)])), (b 6, .inr (2, [.long (ζ_32.1.2.1 32), .long (ζ_32.1.2.1 33)])), (b 7, .inr (6, [.int (ζ_32.1.1 40), .int (ζ_32.1.1 41), .int (ζ_32.1.1 42), .int (ζ_32.1.1 43), .int (ζ_32.1.1 44), .int (ζ_32.1.1 45), .ref (b 8), .ref (b 9), .ref (b 10), .int (ζ_32.1.1 49), .ref (b 11), .ref (b 12), .int (ζ_32.1.1 52)])), (b 8, .inl (d 0, 16, .inl (ζ_32.1.2.2.1 46))), (b 9, .inl (d 1, 16, .inr (.inl (ζ_32.1.2.2.2.1 47)))), (b 10, .inl (d 1, 16, .inr (.inl (ζ_32.1.2.2.2.1 48)))), (b 11, .inl (d 0, 8, .inl (ζ_32.1.2.2.1 50))), (b 12, .inl (d 0, 8, .inl (ζ_32.1.2.2.1 51))), (b 13, .inr (8, [.int (ζ_32.1.1 60), .int (ζ_32.1.1 61), .int (ζ_32.1.1 62), .int (ζ_32.1.1 63), .ref (b 14), .ref (b 15), .int (ζ_32.1.1 66), .ref (b 17)])), (b 14, .inl (d 0, 100, .inl (ζ_32.1.2.2.1 64))), (b 15, .inl (d 3, 100, .inl (ζ_32.1.2.2.1 65))), (b 17, .inr (18, [.int (ζ_32.1.1 70), .ref (b 18), .int (ζ_32.1.1 72)])), (b 18, .inl (d 4, 16, .inr (.inr (.inr (.inr (ζ_32.1.2.2.2.2 18)))))), (b 16, .inr (17, [.ref (b 19), .int (ζ_32.1.1 81), .int (ζ_32.1.1 82)])), (b 19, .inl (d 4, 17, .inr (.inr (.inr (.inr (ζ_32.1.2.2.2.2 19)))))), (o, .inr (9, [.ref on, .int (ζ_32.1.1 90), .int (ζ_32.1.1 91), .ref (b 0)])), (on, .inr (3, [.int t.1, .int t.2.1, .int t.2.2])), (q_23, .inr (12, [.int (0 : Int32), .null, .null, .null, .null, .null, .int (0 : Int32)]))]) (w' := fun u : UU => (XW d z b ζ_32.1 ++ [(o, .inr (9, [.ref on, .int (ζ_32.1.1 90), .int (ζ_32.1.1 91), .ref (b 0)])), (on, .inr (3, [.int t.1, .int t.2.1, .int t.2.2])), (q_23, .inr (12, [.int (0 : Int32), .null, .null, .null, .null, .null, .int (0 : Int32)])), (q_28, .inr (13, [.int r_30, .null, .null, .null, .null, .null, .int (0 : Int32)]))])) (va_runI (As := [.int r_30]) (rest := [.ref q_28, .int r_25, .ref q_23, .ref q_23]) S (keV (tX14_initn l D d z q_28 r_30 _) H) (cwI 1 hts (lw_meth q1367) rfl rfl rfl (hts _ q126) (hts _ q1365) (hts _ q1366) rfl (by decide +kernel) ⟨(Nat.le_of_ble_eq_true rfl), (Nat.le_of_ble_eq_true rfl)⟩) ⟨kbl Pw.blind, fun U hU hW => ⟨Pw.cut (w := (XW d z b ζ_32.1 ++ [(o, .inr (9, [.ref on, .int (ζ_32.1.1 90), .int (ζ_32.1.1 91), .ref (b 0)])), (on, .inr (3, [.int t.1, .int t.2.1, .int t.2.2])), (q_23, .inr (12, [.int (0 : Int32), .null, .null, .null, .null, .null, .int (0 : Int32)])), (q_28, .inr (13, [.int (0 : Int32), .null, .null, .null, .null, .null, .int (0 : Int32)]))])) (tl := ζ_32.2) hK hP hD hZ hS hA [23] rfl rfl hU hW, hU⟩⟩ rfl rfl hl.1 rfl (lv_room (Nat.le_of_ble_eq_true rfl)) dX9_checkVoltage_95 ⟨(Nat.le_of_ble_eq_true rfl), (Nat.le_of_ble_eq_true rfl)⟩) hP hD hS hA [23] [0, 1, 2, 3, 4, 5, 6, 7, 8, 9, 10, 11, 12, 13, 14, 15, 16, 17, 18, 19, 20, 21, 22] [0, 1, 2, 3, 4, 5, 6, 7, 8, 9, 10, 11, 12, 13, 14, 15, 16, 17, 18, 19, 20, 21, 22, 23] rfl rfl rfl rfl (by decide) rfl (fun _ => rfl) ?_
      clear hP hD hS
      intro u_33 _ H locs hP hD hS hk
      replace hN := hN.keep hk
      replace hq_q_23 := hq_q_23.keep hk
      replace hq_q_28 := hq_q_28.keep hk
      clear hk
      refine lv_goto (tgt := 102) hx hb dX9_checkVoltage_98 (by decide) ?_
      refine run_vSM (w := (XW d z b ζ_32.1 ++ [(o, .inr (9, [.ref on, .int (ζ_32.1.1 90), .int (ζ_32.1.1 91), .ref (b 0)])), (on, .inr (3, [.int t.1, .int t.2.1, .int t.2.2])), (q_23, .inr (12, [.int (0 : Int32), .null, .null, .null, .null, .null, .int (0 : Int32)])), (q_28, .inr (13, [.int r_30, .null, .null, .null, .null, .null, .int (0 : Int32)]))])) (tl := ζ_32.2) (wr := [(b 0, .inr (1, [.ref (b 1), .int (ζ_32.1.1 1), .int (ζ_32.1.1 2), .ref (b 2), .ref (b 3), .ref (b 4), va_rf (ζ_32.1.2.2.2.2 6 0), .ref (b 7), .ref (b 13), .ref (b 16), .int (ζ_32.1.1 10)])), (b 1, .inl (d 2, 500, .inl (ζ_32.1.2.2.1 1))), (b 2, .inl (d 5, 2, .inr (.inr (.inr (.inr (fun j => some (z.2.2 j))))))), (b 3, .inl (d 6, 5, .inr (.inr (.inr (.inr (fun j => some (z.2.2 (2 + j)))))))), (b 4, .inr (4, [.int (ζ_32.1.1 20), .long (ζ_32.1.2.1 21), .long (ζ_32.1.2.1 22), .long (ζ_32.1.2.1 23), .ref (b 5), .ref (b 6), .ref (b 0)])), (b 5, .inr (2, [.long (ζ_32.1.2.1 30), .long (ζ_32.1.2.1 31)])), (b 6, .inr (2, [.long (ζ_32.1.2.1 32), .long (ζ_32.1.2.1 33)])), (b 7, .inr (6, [.int (ζ_32.1.1 40), .int (ζ_32.1.1 41), .int (ζ_32.1.1 42), .int (ζ_32.1.1 43), .int (ζ_32.1.1 44), .int (ζ_32.1.1 45), .ref (b 8), .ref (b 9), .ref (b 10), .int (ζ_32.1.1 49), .ref (b 11), .ref (b 12), .int (ζ_32.1.1 52)])), (b 8, .inl (d 0, 16, .inl (ζ_32.1.2.2.1 46))), (b 9, .inl (d 1, 16, .inr (.inl (ζ_32.1.2.2.2.1 47)))), (b 10, .inl (d 1, 16, .inr (.inl (ζ_32.1.2.2.2.1 48)))), (b 11, .inl (d 0, 8, .inl (ζ_32.1.2.2.1 50))), (b 12, .inl (d 0, 8, .inl (ζ_32.1.2.2.1 51))), (b 13, .inr (8, [.int (ζ_32.1.1 60), .int (ζ_32.1.1 61), .int (ζ_32.1.1 62), .int (ζ_32.1.1 63), .ref (b 14), .ref (b 15), .int (ζ_32.1.1 66), .ref (b 17)])), (b 14, .inl (d 0, 100, .inl (ζ_32.1.2.2.1 64))), (b 15, .inl (d 3, 100, .inl (ζ_32.1.2.2.1 65))), (b 17, .inr (18, [.int (ζ_32.1.1 70), .ref (b 18), .int (ζ_32.1.1 72)])), (b 18, .inl (d 4, 16, .inr (.inr (.inr (.inr (ζ_32.1.2.2.2.2 18)))))), (b 16, .inr (17, [.ref (b 19), .int (ζ_32.1.1 81), .int (ζ_32.1.1 82)])), (b 19, .inl (d 4, 17, .inr (.inr (.inr (.inr (ζ_32.1.2.2.2.2 19)))))), (o, .inr (9, [.ref on, .int (ζ_32.1.1 90), .int (ζ_32.1.1 91), .ref (b 0)])), (on, .inr (3, [.int t.1, .int t.2.1, .int t.2.2])), (q_28, .inr (13, [.int r_30, .null, .null, .null, .null, .null, .int (0 : Int32)]))]) (w' := fun u : UU => (XW d z b ζ_32.1 ++ [(o, .inr (9, [.ref on, .int (ζ_32.1.1 90), .int (ζ_32.1.1 91), .ref (b 0)])), (on, .inr (3, [.int t.1, .int t.2.1, .int t.2.2])), (q_23, .inr (12, [.int r_25, .ref q_28, .null, .null, .null, .null, .int (0 : Int32)])), (q_28, .inr (13, [.int r_30, .null, .null, .null, .null, .null, .int (0 : Int32)]))])) (va_runI (As := [.int r_25, .ref q_28]) (rest := [.ref q_23]) S (keV (tX13_initr l D d z q_23 r_25 q_28 _) H) (cwI 2 hts (lw_meth q1374) rfl rfl rfl (hts _ q125) (hts _ q1372) (hts _ q1373) rfl (by decide +kernel) ⟨(Nat.le_of_ble_eq_true rfl), (Nat.le_of_ble_eq_true rfl)⟩) ⟨kbl Pw.blind, fun U hU hW => ⟨Pw.cut (w := (XW d z b ζ_32.1 ++ [(o, .inr (9, [.ref on, .int (ζ_32.1.1 90), .int (ζ_32.1.1 91), .ref (b 0)])), (on, .inr (3, [.int t.1, .int t.2.1, .int t.2.2])), (q_23, .inr (12, [.int (0 : Int32), .null, .null, .null, .null, .null, .int (0 : Int32)])), (q_28, .inr (13, [.int r_30, .null, .null, .null, .null, .null, .int (0 : Int32)]))])) (tl := ζ_32.2) hK hP hD hZ hS hA [22] rfl rfl hU hW, hU⟩⟩ rfl rfl hl.1 rfl (lv_room (Nat.le_of_ble_eq_true rfl)) dX9_checkVoltage_102 ⟨(Nat.le_of_ble_eq_true rfl), (Nat.le_of_ble_eq_true rfl)⟩) hP hD hS hA [22] [0, 1, 2, 3, 4, 5, 6, 7, 8, 9, 10, 11, 12, 13, 14, 15, 16, 17, 18, 19, 20, 21, 23] [0, 1, 2, 3, 4, 5, 6, 7, 8, 9, 10, 11, 12, 13, 14, 15, 16, 17, 18, 19, 20, 21, 23, 22] rfl rfl rfl rfl (by decide) rfl (fun _ => rfl) ?_
      clear hP hD hS
      intro u_34 _ H locs hP hD hS hk
      replace hN := hN.keep hk
      replace hq_q_23 := hq_q_23.keep hk
      replace hq_q_28 := hq_q_28.keep hk
      clear hk
      refine vx_athrow hx hb dX9_checkVoltage_105 ?_
      obtain ⟨ζ_35, e_ζ_35⟩ : ∃ x, x = (ζ_32.1, [(q_23, .inr (12, [.int r_25, .ref q_28, .null, .null, .null, .null, .int (0 : Int32)])), (q_28, .inr (13, [.int r_30, .null, .null, .null, .null, .null, .int (0 : Int32)]))] ++ ζ_32.2) := ⟨_, rfl⟩
      replace hN := MN.eqt (w2 := ζ_35.2) (w := [(q_23, .inr (12, [.int r_25, .ref q_28, .null, .null, .null, .null, .int (0 : Int32)])), (q_28, .inr (13, [.int r_30, .null, .null, .null, .null, .null, .int (0 : Int32)]))] ++ ζ_32.2) (MN.cons hq_q_23 (MN.cons hq_q_28 hN)) (by rw [e_ζ_35])
      replace hf := nm_some hf ζ_35 e_ζ_35
      replace hP := kp_P (w := (XW d z b ζ_32.1 ++ [(o, .inr (9, [.ref on, .int (ζ_32.1.1 90), .int (ζ_32.1.1 91), .ref (b 0)])), (on, .inr (3, [.int t.1, .int t.2.1, .int t.2.2]))])) (ks := [(q_23, .inr (12, [.int r_25, .ref q_28, .null, .null, .null, .null, .int (0 : Int32)])), (q_28, .inr (13, [.int r_30, .null, .null, .null, .null, .null, .int (0 : Int32)]))]) (w' := (XW d z b ζ_35.1 ++ [(o, .inr (9, [.ref on, .int (ζ_35.1.1 90), .int (ζ_35.1.1 91), .ref (b 0)])), (on, .inr (3, [.int t.1, .int t.2.1, .int t.2.2]))])) (t2 := ζ_35.2) (by rw [show ((XW d z b ζ_32.1 ++ [(o, .inr (9, [.ref on, .int (ζ_32.1.1 90), .int (ζ_32.1.1 91), .ref (b 0)])), (on, .inr (3, [.int t.1, .int t.2.1, .int t.2.2]))])) ++ [(q_23, .inr (12, [.int r_25, .ref q_28, .null, .null, .null, .null, .int (0 : Int32)])), (q_28, .inr (13, [.int r_30, .null, .null, .null, .null, .null, .int (0 : Int32)]))] = (XW d z b ζ_32.1 ++ [(o, .inr (9, [.ref on, .int (ζ_32.1.1 90), .int (ζ_32.1.1 91), .ref (b 0)])), (on, .inr (3, [.int t.1, .int t.2.1, .int t.2.2])), (q_23, .inr (12, [.int r_25, .ref q_28, .null, .null, .null, .null, .int (0 : Int32)])), (q_28, .inr (13, [.int r_30, .null, .null, .null, .null, .null, .int (0 : Int32)]))]) from rfl]; exact hP) (by subst e_ζ_35; rfl) (by subst e_ζ_35; rfl)
      replace hD := kp_D (w := (XW d z b ζ_32.1 ++ [(o, .inr (9, [.ref on, .int (ζ_32.1.1 90), .int (ζ_32.1.1 91), .ref (b 0)])), (on, .inr (3, [.int t.1, .int t.2.1, .int t.2.2]))])) (ks := [(q_23, .inr (12, [.int r_25, .ref q_28, .null, .null, .null, .null, .int (0 : Int32)])), (q_28, .inr (13, [.int r_30, .null, .null, .null, .null, .null, .int (0 : Int32)]))]) (w' := (XW d z b ζ_35.1 ++ [(o, .inr (9, [.ref on, .int (ζ_35.1.1 90), .int (ζ_35.1.1 91), .ref (b 0)])), (on, .inr (3, [.int t.1, .int t.2.1, .int t.2.2]))])) (t2 := ζ_35.2) (by rw [show ((XW d z b ζ_32.1 ++ [(o, .inr (9, [.ref on, .int (ζ_32.1.1 90), .int (ζ_32.1.1 91), .ref (b 0)])), (on, .inr (3, [.int t.1, .int t.2.1, .int t.2.2]))])) ++ [(q_23, .inr (12, [.int r_25, .ref q_28, .null, .null, .null, .null, .int (0 : Int32)])), (q_28, .inr (13, [.int r_30, .null, .null, .null, .null, .null, .int (0 : Int32)]))] = (XW d z b ζ_32.1 ++ [(o, .inr (9, [.ref on, .int (ζ_32.1.1 90), .int (ζ_32.1.1 91), .ref (b 0)])), (on, .inr (3, [.int t.1, .int t.2.1, .int t.2.2])), (q_23, .inr (12, [.int r_25, .ref q_28, .null, .null, .null, .null, .int (0 : Int32)])), (q_28, .inr (13, [.int r_30, .null, .null, .null, .null, .null, .int (0 : Int32)]))]) from rfl]; exact hD) (by subst e_ζ_35; rfl) (by subst e_ζ_35; rfl)
      have m_q_23 : (q_23, (.inr (12, [.int r_25, .ref q_28, .null, .null, .null, .null, .int (0 : Int32)]) : va_E)) ∈ ζ_35.2 := by subst e_ζ_35; exact List.mem_append_left _ (List.mem_of_getElem? (i := 0) rfl)
      have m_q_28 : (q_28, (.inr (13, [.int r_30, .null, .null, .null, .null, .null, .int (0 : Int32)]) : va_E)) ∈ ζ_35.2 := by subst e_ζ_35; exact List.mem_append_left _ (List.mem_of_getElem? (i := 1) rfl)
      clear e_ζ_35
      refine vx_widen (k := 2) (n := 14) (Nat.le_of_ble_eq_true rfl) (Nat.le_of_ble_eq_true rfl) ?_
      exact hthr _ _ _ _ _ _ _ _ _ hf hP hD hS hN ⟨_, List.mem_append_right _ m_q_23⟩
noncomputable def fX9_check (K : Nat) (d : Nat → ClassId) (t : (Int32 × Int32 × Int32)) (u : UU) (μ : XT) : Option (XR Unit XT) :=
  b3u u (fun u => fX9_checkSwr K d (t.1, t.2.1, t.2.2) u μ) (fun c_5 q_6 ζ_7 u =>
      if c_5 = 10 then
        ask u fun q_9 u =>
        nm ((ζ_7.1, [(q_9, .inr (11, [.int (ζ_7.1.1 90), .ref q_6, .null, .null, .null, .null, .int (0 : Int32)]))] ++ ζ_7.2)) fun ζ_11 =>
        some (.inl (11, q_9, ζ_11))
      else
        if c_5 = 11 then
          some (.inl (11, q_6, ζ_7))
        else
          none
    ) fun _ ζ_12 u =>
    b3u u (fun u => fX9_checkVoltage K d (t.1, t.2.1, t.2.2) u ζ_12) (fun c_18 q_19 ζ_20 u =>
        if c_18 = 12 then
          ask u fun q_22 u =>
          nm ((ζ_20.1, [(q_22, .inr (11, [.int (ζ_20.1.1 90), .ref q_19, .null, .null, .null, .null, .int (0 : Int32)]))] ++ ζ_20.2)) fun ζ_24 =>
          some (.inl (11, q_22, ζ_24))
        else
          none
      ) fun _ ζ_25 u =>
      some (.inr ((), ζ_25))
set_option maxHeartbeats 4000000 in
set_option maxRecDepth 100000 in
theorem tX9_check (l : Launch) (D : va_G) (d : Nat → ClassId) (z : ZT) (b : Nat → Nat) (K : Nat) (o : Nat) (on : Nat) (t : (Int32 × Int32 × Int32)) (μ : XT) (y : UU → XR Unit XT) (hf : ∀ u, fX9_check K d t u μ = some (y u)) : CVXM l yX9_check (wsW_ yX9_check cX9_check 2 (Option.none : Option Jvm.ClassFile.FieldType) [((0 : Nat), (8 : Nat), (11 : Nat), (81 : Nat)), ((0 : Nat), (8 : Nat), (11 : Nat), (116 : Nat))]) (rmc 7 4 28 153) D d z [.ref o] ((XW d z b μ.1 ++ [(o, .inr (9, [.ref on, .int (μ.1.1 90), .int (μ.1.1 91), .ref (b 0)])), (on, .inr (3, [.int t.1, .int t.2.1, .int t.2.2]))]) ++ μ.2) (fun u : UU × XT => (XW d z b u.2.1 ++ [(o, .inr (9, [.ref on, .int (u.2.1.1 90), .int (u.2.1.1 91), .ref (b 0)])), (on, .inr (3, [.int t.1, .int t.2.1, .int t.2.2]))]) ++ u.2.2) (fun u => y u.1 = .inr ((), u.2)) (fun u : UU × Nat × Nat × XT => (u.2.1, u.2.2.1)) (fun u => (XW d z b u.2.2.2.1 ++ [(o, .inr (9, [.ref on, .int (u.2.2.2.1.1 90), .int (u.2.2.2.1.1 91), .ref (b 0)])), (on, .inr (3, [.int t.1, .int t.2.1, .int t.2.2]))]) ++ u.2.2.2.2) (fun u => y u.1 = .inl u.2) μ.2 (fun u => u.2.2) (fun u => u.2.2.2.2) := by
  refine CVXM.ofH (own := RX9) rfl (by decide) (Nat.le_of_ble_eq_true rfl) ?_
  intro p e s m args below meth c A Q ls S hin htab hK hP hD hZ hS hA hl hret0 hthr0
  have hret : ∀ (U0 : UU) (x : Unit) (μx : XT) (H : Heap) (locs : List Loc) (pc : Nat) (ls' : Array Slot), some (Sum.inr (x, μx)) = some (y U0) → decode cX9_check pc = .ok (.return_, 1) → va_P D CL ((XW d z b μx.1 ++ [(o, .inr (9, [.ref on, .int (μx.1.1 90), .int (μx.1.1 91), .ref (b 0)])), (on, .inr (3, [.int t.1, .int t.2.1, .int t.2.2]))]) ++ μx.2) H → va_D A ((XW d z b μx.1 ++ [(o, .inr (9, [.ref on, .int (μx.1.1 90), .int (μx.1.1 91), .ref (b 0)])), (on, .inr (3, [.int t.1, .int t.2.1, .int t.2.2]))]) ++ μx.2) → va_S A s.heap H locs → MN μ.2 μx.2 H → W p l e (rmc 7 4 28 153) s m args below meth c H locs 4 28 Q (F0 m pc ls' []) := by
    intro U0 x μx H locs pc ls' h9 hdg hP hD hS hN
    exact hret0 (U0, μx) (Option.some.inj h9).symm H locs pc ls' hdg hP hD hS hN
  have hthr : ∀ (U0 : UU) (c9 q9 : Nat) (μx : XT) (H : Heap) (locs : List Loc) (pc : Nat) (ls' : Array Slot) (st' : List Value), some (Sum.inl (c9, q9, μx)) = some (y U0) → (∀ z9 ∈ c.exceptionTable.toList, covers z9 pc = false ∨ (z9.catchType ≠ 0 ∧ ∃ nm : String, (Cond.classLink RX9 z9.catchType nm).before args s = true ∧ va_Nc (exN c9) nm s)) → va_P D CL ((XW d z b μx.1 ++ [(o, .inr (9, [.ref on, .int (μx.1.1 90), .int (μx.1.1 91), .ref (b 0)])), (on, .inr (3, [.int t.1, .int t.2.1, .int t.2.2]))]) ++ μx.2) H → va_D A ((XW d z b μx.1 ++ [(o, .inr (9, [.ref on, .int (μx.1.1 90), .int (μx.1.1 91), .ref (b 0)])), (on, .inr (3, [.int t.1, .int t.2.1, .int t.2.2]))]) ++ μx.2) → va_S A s.heap H locs → MN μ.2 μx.2 H → (∃ fs, (q9, (.inr (c9, fs) : va_E)) ∈ (XW d z b μx.1 ++ [(o, .inr (9, [.ref on, .int (μx.1.1 90), .int (μx.1.1 91), .ref (b 0)])), (on, .inr (3, [.int t.1, .int t.2.1, .int t.2.2]))]) ++ μx.2) → vx_W p l e (rmc 7 4 28 153) s m args below meth c H locs 4 28 Q (F0 m pc ls' st') q9 := by
    intro U0 c9 q9 μx H locs pc ls' st' h9 hc hP hD hS hN hm
    exact hthr0 (U0, c9, q9, μx) (Option.some.inj h9).symm H locs pc ls' st' hc hP hD hS hN hm
  have hx := S.1
  have hb := S.2.1
  have hts := S.2.2.2.2
  have hl : lv_has ls 2 [(0, .ref o)] := hl
  unfold fX9_check at hf
  have hN : MN μ.2 μ.2 s.heap := MN.rf
  refine lv_aload_n hx hb dX9_check_0 rfl (lv_at hl 0 rfl) ?_
  obtain ⟨y_1, h_2, ft_3, fr_4⟩ := b3u_some hf
  refine runT_vM (vx_runV (As := []) (rest := []) S (kxV2 (tX9_checkSwr l D d z b K o on (t.1, t.2.1, t.2.2) μ y_1 h_2 _) s.heap) (cwV 0 hts (lw_V q1295 q1297 qs38 q121 q1298) rfl rfl rfl (by decide +kernel) ⟨(Nat.le_of_ble_eq_true rfl), (Nat.le_of_ble_eq_true rfl)⟩) ⟨kbl Pw.blind, (va_recv hK.1 hP (ci := 9) (q0 := 20) rfl rfl), fun U hU hW => ⟨Pw.at hK hP hD hZ hS hA hU hW, hU⟩⟩ rfl rfl hl.1 rfl (lv_room (Nat.le_of_ble_eq_true rfl)) dX9_check_1 ⟨(Nat.le_of_ble_eq_true rfl), (Nat.le_of_ble_eq_true rfl)⟩) hP hD hS hA ?_ ?_
  · rintro ⟨u_8, c_5, q_6, ζ_7⟩ hψ H locs hP hD hS hk hm
    dsimp only at hP hD hk hm ⊢
    obtain ⟨hn, hk⟩ := hk
    replace hN := hN.keep hk
    replace hN := (hN.tr hn).eqt (w2 := ζ_7.2) rfl
    clear hn hk
    replace hf := ft_3 u_8 c_5 q_6 ζ_7 hψ
    clear ft_3 fr_4 h_2 hψ
    by_cases cc : c_5 = 10
    · replace hf := itU_t hf cc
      subst cc
      obtain ⟨ce, g1, g2, g3⟩ := ex_cell hK hP hm
      refine vx_catch (own := RX9) (E := RX11) (name := RX11) S.2.2.2.1 ((tableOf [((0 : Nat), (8 : Nat), (11 : Nat), (81 : Nat)), ((0 : Nat), (8 : Nat), (11 : Nat), (116 : Nat))]).take 0) ((tableOf [((0 : Nat), (8 : Nat), (11 : Nat), (81 : Nat)), ((0 : Nat), (8 : Nat), (11 : Nat), (116 : Nat))])[0]) ((tableOf [((0 : Nat), (8 : Nat), (11 : Nat), (81 : Nat)), ((0 : Nat), (8 : Nat), (11 : Nat), (116 : Nat))]).drop 1) (by rw [htab]; rfl) (fun z9 hz9 => by
        cases hz9) (by decide) (by decide) (hts _ q1293) (va_Nw.use rfl (hK.2 _ q1304 rfl)) g1 g2 g3 ?_
      clear g1 g2 g3 ce
      refine lv_astore_n (lv' := [(1, .ref q_6), (0, .ref o)]) hx hb dX9_check_11 rfl hl (by decide) rfl (fun ls hl => ?_)
      refine g_newTM (w := (XW d z b ζ_7.1 ++ [(o, .inr (9, [.ref on, .int (ζ_7.1.1 90), .int (ζ_7.1.1 91), .ref (b 0)])), (on, .inr (3, [.int t.1, .int t.2.1, .int t.2.2]))])) (tl := ζ_7.2) hx hb hts S.2.2.2.1 hK hP hD hS hA (ci := 11) in_X12 tyX12 tyX12_ok q1324 q1325 q124 rfl (fs := [.int (0 : Int32), .null, .null, .null, .null, .null, .int (0 : Int32)]) (fun j hj => by rcases (show j = 0 ∨ j = 1 ∨ j = 2 ∨ j = 3 ∨ j = 4 ∨ j = 5 ∨ j = 6 by omega) with rfl | rfl | rfl | rfl | rfl | rfl | rfl <;> rfl) (Nat.le_of_ble_eq_true rfl) (Nat.le_of_ble_eq_true rfl) (w1 := fun q => (XW d z b ζ_7.1 ++ [(o, .inr (9, [.ref on, .int (ζ_7.1.1 90), .int (ζ_7.1.1 91), .ref (b 0)])), (on, .inr (3, [.int t.1, .int t.2.1, .int t.2.2])), (q, .inr (11, [.int (0 : Int32), .null, .null, .null, .null, .null, .int (0 : Int32)]))])) (fun _ => rfl) dX9_check_12 ?_
      clear hP hD hS
      intro q_9 H hP hD hS hk hq_q_9
      replace hN := hN.keep hk
      clear hk
      replace hf := askU hf q_9
      replace hf := hf (fun _ => 0)
      refine lv_dup hx hb dX9_check_15 rfl ?_
      refine lv_aload_n hx hb dX9_check_16 rfl (lv_at hl 1 rfl) ?_
      refine g_get hx hb hts S.2.2.2.1 hK hP in_X9 20 rfl rfl 1 (by decide) q1275 (fun _ h9 => h9) (v := .int (ζ_7.1.1 90)) rfl dX9_check_17 ?_
      refine lv_aload_n hx hb dX9_check_20 rfl (lv_at hl 0 rfl) ?_
      refine run_vSM (w := (XW d z b ζ_7.1 ++ [(o, .inr (9, [.ref on, .int (ζ_7.1.1 90), .int (ζ_7.1.1 91), .ref (b 0)])), (on, .inr (3, [.int t.1, .int t.2.1, .int t.2.2])), (q_9, .inr (11, [.int (0 : Int32), .null, .null, .null, .null, .null, .int (0 : Int32)]))])) (tl := ζ_7.2) (wr := [(b 0, .inr (1, [.ref (b 1), .int (ζ_7.1.1 1), .int (ζ_7.1.1 2), .ref (b 2), .ref (b 3), .ref (b 4), va_rf (ζ_7.1.2.2.2.2 6 0), .ref (b 7), .ref (b 13), .ref (b 16), .int (ζ_7.1.1 10)])), (b 1, .inl (d 2, 500, .inl (ζ_7.1.2.2.1 1))), (b 2, .inl (d 5, 2, .inr (.inr (.inr (.inr (fun j => some (z.2.2 j))))))), (b 3, .inl (d 6, 5, .inr (.inr (.inr (.inr (fun j => some (z.2.2 (2 + j)))))))), (b 4, .inr (4, [.int (ζ_7.1.1 20), .long (ζ_7.1.2.1 21), .long (ζ_7.1.2.1 22), .long (ζ_7.1.2.1 23), .ref (b 5), .ref (b 6), .ref (b 0)])), (b 5, .inr (2, [.long (ζ_7.1.2.1 30), .long (ζ_7.1.2.1 31)])), (b 6, .inr (2, [.long (ζ_7.1.2.1 32), .long (ζ_7.1.2.1 33)])), (b 7, .inr (6, [.int (ζ_7.1.1 40), .int (ζ_7.1.1 41), .int (ζ_7.1.1 42), .int (ζ_7.1.1 43), .int (ζ_7.1.1 44), .int (ζ_7.1.1 45), .ref (b 8), .ref (b 9), .ref (b 10), .int (ζ_7.1.1 49), .ref (b 11), .ref (b 12), .int (ζ_7.1.1 52)])), (b 8, .inl (d 0, 16, .inl (ζ_7.1.2.2.1 46))), (b 9, .inl (d 1, 16, .inr (.inl (ζ_7.1.2.2.2.1 47)))), (b 10, .inl (d 1, 16, .inr (.inl (ζ_7.1.2.2.2.1 48)))), (b 11, .inl (d 0, 8, .inl (ζ_7.1.2.2.1 50))), (b 12, .inl (d 0, 8, .inl (ζ_7.1.2.2.1 51))), (b 13, .inr (8, [.int (ζ_7.1.1 60), .int (ζ_7.1.1 61), .int (ζ_7.1.1 62), .int (ζ_7.1.1 63), .ref (b 14), .ref (b 15), .int (ζ_7.1.1 66), .ref (b 17)])), (b 14, .inl (d 0, 100, .inl (ζ_7.1.2.2.1 64))), (b 15, .inl (d 3, 100, .inl (ζ_7.1.2.2.1 65))), (b 17, .inr (18, [.int (ζ_7.1.1 70), .ref (b 18), .int (ζ_7.1.1 72)])), (b 18, .inl (d 4, 16, .inr (.inr (.inr (.inr (ζ_7.1.2.2.2.2 18)))))), (b 16, .inr (17, [.ref (b 19), .int (ζ_7.1.1 81), .int (ζ_7.1.1 82)])), (b 19, .inl (d 4, 17, .inr (.inr (.inr (.inr (ζ_7.1.2.2.2.2 19)))))), (o, .inr (9, [.ref on, .int (ζ_7.1.1 90), .int (ζ_7.1.1 91), .ref (b 0)])), (on, .inr (3, [.int t.1, .int t.2.1, .int t.2.2]))]) (w' := fun u : UU => (XW d z b ζ_7.1 ++ [(o, .inr (9, [.ref on, .int (ζ_7.1.1 90), .int (ζ_7.1.1 91), .ref (b 0)])), (on, .inr (3, [.int t.1, .int t.2.1, .int t.2.2])), (q_9, .inr (11, [.int (ζ_7.1.1 90), .ref q_6, .null, .null, .null, .null, .int (0 : Int32)]))])) (va_runI (As := [.int (ζ_7.1.1 90), .ref q_6]) (rest := [.ref q_9]) S (keV (tX12_initr l D d z q_9 (ζ_7.1.1 90) q_6 _) H) (cwI 2 hts (lw_meth q1335) rfl rfl rfl (hts _ q124) (hts _ q1333) (hts _ q1334) rfl (by decide +kernel) ⟨(Nat.le_of_ble_eq_true rfl), (Nat.le_of_ble_eq_true rfl)⟩) ⟨kbl Pw.blind, fun U hU hW => ⟨Pw.cut (w := (XW d z b ζ_7.1 ++ [(o, .inr (9, [.ref on, .int (ζ_7.1.1 90), .int (ζ_7.1.1 91), .ref (b 0)])), (on, .inr (3, [.int t.1, .int t.2.1, .int t.2.2])), (q_9, .inr (11, [.int (0 : Int32), .null, .null, .null, .null, .null, .int (0 : Int32)]))])) (tl := ζ_7.2) hK hP hD hZ hS hA [22] rfl rfl hU hW, hU⟩⟩ rfl rfl hl.1 rfl (lv_room (Nat.le_of_ble_eq_true rfl)) dX9_check_21 ⟨(Nat.le_of_ble_eq_true rfl), (Nat.le_of_ble_eq_true rfl)⟩) hP hD hS hA [22] [0, 1, 2, 3, 4, 5, 6, 7, 8, 9, 10, 11, 12, 13, 14, 15, 16, 17, 18, 19, 20, 21] [0, 1, 2, 3, 4, 5, 6, 7, 8, 9, 10, 11, 12, 13, 14, 15, 16, 17, 18, 19, 20, 21, 22] rfl rfl rfl rfl (by decide) rfl (fun _ => rfl) ?_
      clear hP hD hS
      intro u_10 _ H locs hP hD hS hk
      replace hN := hN.keep hk
      replace hq_q_9 := hq_q_9.keep hk
      clear hk
      refine vx_athrow hx hb dX9_check_24 ?_
      obtain ⟨ζ_11, e_ζ_11⟩ : ∃ x, x = (ζ_7.1, [(q_9, .inr (11, [.int (ζ_7.1.1 90), .ref q_6, .null, .null, .null, .null, .int (0 : Int32)]))] ++ ζ_7.2) := ⟨_, rfl⟩
      replace hN := MN.eqt (w2 := ζ_11.2) (w := [(q_9, .inr (11, [.int (ζ_7.1.1 90), .ref q_6, .null, .null, .null, .null, .int (0 : Int32)]))] ++ ζ_7.2) (MN.cons hq_q_9 hN) (by rw [e_ζ_11])
      replace hf := nm_some hf ζ_11 e_ζ_11
      replace hP := kp_P (w := (XW d z b ζ_7.1 ++ [(o, .inr (9, [.ref on, .int (ζ_7.1.1 90), .int (ζ_7.1.1 91), .ref (b 0)])), (on, .inr (3, [.int t.1, .int t.2.1, .int t.2.2]))])) (ks := [(q_9, .inr (11, [.int (ζ_7.1.1 90), .ref q_6, .null, .null, .null, .null, .int (0 : Int32)]))]) (w' := (XW d z b ζ_11.1 ++ [(o, .inr (9, [.ref on, .int (ζ_11.1.1 90), .int (ζ_11.1.1 91), .ref (b 0)])), (on, .inr (3, [.int t.1, .int t.2.1, .int t.2.2]))])) (t2 := ζ_11.2) (by rw [show ((XW d z b ζ_7.1 ++ [(o, .inr (9, [.ref on, .int (ζ_7.1.1 90), .int (ζ_7.1.1 91), .ref (b 0)])), (on, .inr (3, [.int t.1, .int t.2.1, .int t.2.2]))])) ++ [(q_9, .inr (11, [.int (ζ_7.1.1 90), .ref q_6, .null, .null, .null, .null, .int (0 : Int32)]))] = (XW d z b ζ_7.1 ++ [(o, .inr (9, [.ref on, .int (ζ_7.1.1 90), .int (ζ_7.1.1 91), .ref (b 0)])), (on, .inr (3, [.int t.1, .int t.2.1, .int t.2.2])), (q_9, .inr (11, [.int (ζ_7.1.1 90), .ref q_6, .null, .null, .null, .null, .int (0 : Int32)]))]) from rfl]; exact hP) (by subst e_ζ_11; rfl) (by subst e_ζ_11; rfl)
      replace hD := kp_D (w := (XW d z b ζ_7.1 ++ [(o, .inr (9, [.ref on, .int (ζ_7.1.1 90), .int (ζ_7.1.1 91), .ref (b 0)])), (on, .inr (3, [.int t.1, .int t.2.1, .int t.2.2]))])) (ks := [(q_9, .inr (11, [.int (ζ_7.1.1 90), .ref q_6, .null, .null, .null, .null, .int (0 : Int32)]))]) (w' := (XW d z b ζ_11.1 ++ [(o, .inr (9, [.ref on, .int (ζ_11.1.1 90), .int (ζ_11.1.1 91), .ref (b 0)])), (on, .inr (3, [.int t.1, .int t.2.1, .int t.2.2]))])) (t2 := ζ_11.2) (by rw [show ((XW d z b ζ_7.1 ++ [(o, .inr (9, [.ref on, .int (ζ_7.1.1 90), .int (ζ_7.1.1 91), .ref (b 0)])), (on, .inr (3, [.int t.1, .int t.2.1, .int t.2.2]))])) ++ [(q_9, .inr (11, [.int (ζ_7.1.1 90), .ref q_6, .null, .null, .null, .null, .int (0 : Int32)]))] = (XW d z b ζ_7.1 ++ [(o, .inr (9, [.ref on, .int (ζ_7.1.1 90), .int (ζ_7.1.1 91), .ref (b 0)])), (on, .inr (3, [.int t.1, .int t.2.1, .int t.2.2])), (q_9, .inr (11, [.int (ζ_7.1.1 90), .ref q_6, .null, .null, .null, .null, .int (0 : Int32)]))]) from rfl]; exact hD) (by subst e_ζ_11; rfl) (by subst e_ζ_11; rfl)
      have m_q_9 : (q_9, (.inr (11, [.int (ζ_7.1.1 90), .ref q_6, .null, .null, .null, .null, .int (0 : Int32)]) : va_E)) ∈ ζ_11.2 := by subst e_ζ_11; exact List.mem_append_left _ (List.mem_of_getElem? (i := 0) rfl)
      clear e_ζ_11
      refine vx_widen (k := 4) (n := 28) (Nat.le_of_ble_eq_true rfl) (Nat.le_of_ble_eq_true rfl) ?_
      exact hthr _ _ _ _ _ _ _ _ _ hf (fun z9 hz9 => by
        rw [htab] at hz9
        rcases List.mem_cons.mp hz9 with rfl | hz9
        · exact (Or.inl (by decide))
        rcases List.mem_cons.mp hz9 with rfl | hz9
        · exact (Or.inl (by decide))
        cases hz9) hP hD hS hN ⟨_, List.mem_append_right _ m_q_9⟩
    · replace hf := itU_f hf cc
      clear cc
      by_cases cc : c_5 = 11
      · replace hf := itU_t hf cc
        subst cc
        replace hf := hf (fun _ => 0)
        refine vx_widen (k := 4) (n := 28) (Nat.le_of_ble_eq_true rfl) (Nat.le_of_ble_eq_true rfl) ?_
        exact hthr _ _ _ _ _ _ _ _ _ hf (fun z9 hz9 => by
        rw [htab] at hz9
        rcases List.mem_cons.mp hz9 with rfl | hz9
        · exact (Or.inr ⟨by decide, _, hts _ q1293, hZ.2.2.2.2.2.2.2 (RX12, RX11) (by decide)⟩)
        rcases List.mem_cons.mp hz9 with rfl | hz9
        · exact (Or.inr ⟨by decide, _, hts _ q1294, hZ.2.2.2.2.2.2.2 (RX12, RX13) (by decide)⟩)
        cases hz9) hP hD hS hN hm
      · replace hf := itU_f hf cc
        clear cc
        cases hf (fun _ => 0)
  · rintro ⟨u_13, ζ_12⟩ hφ H locs hP hD hS hk
    dsimp only at hP hD hk ⊢
    obtain ⟨hn, hk⟩ := hk
    replace hN := hN.keep hk
    replace hN := (hN.tr hn).eqt (w2 := ζ_12.2) rfl
    clear hn hk
    replace hf := fr_4 u_13 () ζ_12 hφ
    clear ft_3 fr_4 h_2 hφ
    refine lv_aload_n hx hb dX9_check_4 rfl (lv_at hl 0 rfl) ?_
    obtain ⟨y_14, h_15, ft_16, fr_17⟩ := b3u_some hf
    refine runT_vM (vx_runV (As := []) (rest := []) S (kxV2 (tX9_checkVoltage l D d z b K o on (t.1, t.2.1, t.2.2) ζ_12 y_14 h_15 _) H) (cwV 0 hts (lw_V q1340 q1342 qs40 q121 q1343) rfl rfl rfl (by decide +kernel) ⟨(Nat.le_of_ble_eq_true rfl), (Nat.le_of_ble_eq_true rfl)⟩) ⟨kbl Pw.blind, (va_recv hK.1 hP (ci := 9) (q0 := 20) rfl rfl), fun U hU hW => ⟨Pw.at hK hP hD hZ hS hA hU hW, hU⟩⟩ rfl rfl hl.1 rfl (lv_room (Nat.le_of_ble_eq_true rfl)) dX9_check_5 ⟨(Nat.le_of_ble_eq_true rfl), (Nat.le_of_ble_eq_true rfl)⟩) hP hD hS hA ?_ ?_
    · rintro ⟨u_21, c_18, q_19, ζ_20⟩ hψ H locs hP hD hS hk hm
      dsimp only at hP hD hk hm ⊢
      obtain ⟨hn, hk⟩ := hk
      replace hN := hN.keep hk
      replace hN := (hN.tr hn).eqt (w2 := ζ_20.2) rfl
      clear hn hk
      replace hf := ft_16 u_21 c_18 q_19 ζ_20 hψ
      clear ft_16 fr_17 h_15 hψ
      by_cases cc : c_18 = 12
      · replace hf := itU_t hf cc
        subst cc
        obtain ⟨ce, g1, g2, g3⟩ := ex_cell hK hP hm
        refine vx_catch (own := RX9) (E := RX13) (name := RX13) S.2.2.2.1 ((tableOf [((0 : Nat), (8 : Nat), (11 : Nat), (81 : Nat)), ((0 : Nat), (8 : Nat), (11 : Nat), (116 : Nat))]).take 1) ((tableOf [((0 : Nat), (8 : Nat), (11 : Nat), (81 : Nat)), ((0 : Nat), (8 : Nat), (11 : Nat), (116 : Nat))])[1]) ((tableOf [((0 : Nat), (8 : Nat), (11 : Nat), (81 : Nat)), ((0 : Nat), (8 : Nat), (11 : Nat), (116 : Nat))]).drop 2) (by rw [htab]; rfl) (fun z9 hz9 => by
        rcases List.mem_cons.mp hz9 with rfl | hz9
        · exact Or.inr ⟨by decide, _, hts _ q1293, hZ.2.2.2.2.2.2.2 (RX13, RX11) (by decide)⟩
        cases hz9) (by decide) (by decide) (hts _ q1294) (va_Nw.use rfl (hK.2 _ q1348 rfl)) g1 g2 g3 ?_
        clear g1 g2 g3 ce
        refine lv_astore_n (lv' := [(1, .ref q_19), (0, .ref o)]) hx hb dX9_check_11 rfl hl (by decide) rfl (fun ls hl => ?_)
        refine g_newTM (w := (XW d z b ζ_20.1 ++ [(o, .inr (9, [.ref on, .int (ζ_20.1.1 90), .int (ζ_20.1.1 91), .ref (b 0)])), (on, .inr (3, [.int t.1, .int t.2.1, .int t.2.2]))])) (tl := ζ_20.2) hx hb hts S.2.2.2.1 hK hP hD hS hA (ci := 11) in_X12 tyX12 tyX12_ok q1324 q1325 q124 rfl (fs := [.int (0 : Int32), .null, .null, .null, .null, .null, .int (0 : Int32)]) (fun j hj => by rcases (show j = 0 ∨ j = 1 ∨ j = 2 ∨ j = 3 ∨ j = 4 ∨ j = 5 ∨ j = 6 by omega) with rfl | rfl | rfl | rfl | rfl | rfl | rfl <;> rfl) (Nat.le_of_ble_eq_true rfl) (Nat.le_of_ble_eq_true rfl) (w1 := fun q => (XW d z b ζ_20.1 ++ [(o, .inr (9, [.ref on, .int (ζ_20.1.1 90), .int (ζ_20.1.1 91), .ref (b 0)])), (on, .inr (3, [.int t.1, .int t.2.1, .int t.2.2])), (q, .inr (11, [.int (0 : Int32), .null, .null, .null, .null, .null, .int (0 : Int32)]))])) (fun _ => rfl) dX9_check_12 ?_
        clear hP hD hS
        intro q_22 H hP hD hS hk hq_q_22
        replace hN := hN.keep hk
        clear hk
        replace hf := askU hf q_22
        replace hf := hf (fun _ => 0)
        refine lv_dup hx hb dX9_check_15 rfl ?_
        refine lv_aload_n hx hb dX9_check_16 rfl (lv_at hl 1 rfl) ?_
        refine g_get hx hb hts S.2.2.2.1 hK hP in_X9 20 rfl rfl 1 (by decide) q1275 (fun _ h9 => h9) (v := .int (ζ_20.1.1 90)) rfl dX9_check_17 ?_
        refine lv_aload_n hx hb dX9_check_20 rfl (lv_at hl 0 rfl) ?_
        refine run_vSM (w := (XW d z b ζ_20.1 ++ [(o, .inr (9, [.ref on, .int (ζ_20.1.1 90), .int (ζ_20.1.1 91), .ref (b 0)])), (on, .inr (3, [.int t.1, .int t.2.1, .int t.2.2])), (q_22, .inr (11, [.int (0 : Int32), .null, .null, .null, .null, .null, .int (0 : Int32)]))])) (tl := ζ_20.2) (wr := [(b 0, .inr (1, [.ref (b 1), .int (ζ_20.1.1 1), .int (ζ_20.1.1 2), .ref (b 2), .ref (b 3), .ref (b 4), va_rf (ζ_20.1.2.2.2.2 6 0), .ref (b 7), .ref (b 13), .ref (b 16), .int (ζ_20.1.1 10)])), (b 1, .inl (d 2, 500, .inl (ζ_20.1.2.2.1 1))), (b 2, .inl (d 5, 2, .inr (.inr (.inr (.inr (fun j => some (z.2.2 j))))))), (b 3, .inl (d 6, 5, .inr (.inr (.inr (.inr (fun j => some (z.2.2 (2 + j)))))))), (b 4, .inr (4, [.int (ζ_20.1.1 20), .long (ζ_20.1.2.1 21), .long (ζ_20.1.2.1 22), .long (ζ_20.1.2.1 23), .ref (b 5), .ref (b 6), .ref (b 0)])), (b 5, .inr (2, [.long (ζ_20.1.2.1 30), .long (ζ_20.1.2.1 31)])), (b 6, .inr (2, [.long (ζ_20.1.2.1 32), .long (ζ_20.1.2.1 33)])), (b 7, .inr (6, [.int (ζ_20.1.1 40), .int (ζ_20.1.1 41), .int (ζ_20.1.1 42), .int (ζ_20.1.1 43), .int (ζ_20.1.1 44), .int (ζ_20.1.1 45), .ref (b 8), .ref (b 9), .ref (b 10), .int (ζ_20.1.1 49), .ref (b 11), .ref (b 12), .int (ζ_20.1.1 52)])), (b 8, .inl (d 0, 16, .inl (ζ_20.1.2.2.1 46))), (b 9, .inl (d 1, 16, .inr (.inl (ζ_20.1.2.2.2.1 47)))), (b 10, .inl (d 1, 16, .inr (.inl (ζ_20.1.2.2.2.1 48)))), (b 11, .inl (d 0, 8, .inl (ζ_20.1.2.2.1 50))), (b 12, .inl (d 0, 8, .inl (ζ_20.1.2.2.1 51))), (b 13, .inr (8, [.int (ζ_20.1.1 60), .int (ζ_20.1.1 61), .int (ζ_20.1.1 62), .int (ζ_20.1.1 63), .ref (b 14), .ref (b 15), .int (ζ_20.1.1 66), .ref (b 17)])), (b 14, .inl (d 0, 100, .inl (ζ_20.1.2.2.1 64))), (b 15, .inl (d 3, 100, .inl (ζ_20.1.2.2.1 65))), (b 17, .inr (18, [.int (ζ_20.1.1 70), .ref (b 18), .int (ζ_20.1.1 72)])), (b 18, .inl (d 4, 16, .inr (.inr (.inr (.inr (ζ_20.1.2.2.2.2 18)))))), (b 16, .inr (17, [.ref (b 19), .int (ζ_20.1.1 81), .int (ζ_20.1.1 82)])), (b 19, .inl (d 4, 17, .inr (.inr (.inr (.inr (ζ_20.1.2.2.2.2 19)))))), (o, .inr (9, [.ref on, .int (ζ_20.1.1 90), .int (ζ_20.1.1 91), .ref (b 0)])), (on, .inr (3, [.int t.1, .int t.2.1, .int t.2.2]))]) (w' := fun u : UU => (XW d z b ζ_20.1 ++ [(o, .inr (9, [.ref on, .int (ζ_20.1.1 90), .int (ζ_20.1.1 91), .ref (b 0)])), (on, .inr (3, [.int t.1, .int t.2.1, .int t.2.2])), (q_22, .inr (11, [.int (ζ_20.1.1 90), .ref q_19, .null, .null, .null, .null, .int (0 : Int32)]))])) (va_runI (As := [.int (ζ_20.1.1 90), .ref q_19]) (rest := [.ref q_22]) S (keV (tX12_initr l D d z q_22 (ζ_20.1.1 90) q_19 _) H) (cwI 2 hts (lw_meth q1335) rfl rfl rfl (hts _ q124) (hts _ q1333) (hts _ q1334) rfl (by decide +kernel) ⟨(Nat.le_of_ble_eq_true rfl), (Nat.le_of_ble_eq_true rfl)⟩) ⟨kbl Pw.blind, fun U hU hW => ⟨Pw.cut (w := (XW d z b ζ_20.1 ++ [(o, .inr (9, [.ref on, .int (ζ_20.1.1 90), .int (ζ_20.1.1 91), .ref (b 0)])), (on, .inr (3, [.int t.1, .int t.2.1, .int t.2.2])), (q_22, .inr (11, [.int (0 : Int32), .null, .null, .null, .null, .null, .int (0 : Int32)]))])) (tl := ζ_20.2) hK hP hD hZ hS hA [22] rfl rfl hU hW, hU⟩⟩ rfl rfl hl.1 rfl (lv_room (Nat.le_of_ble_eq_true rfl)) dX9_check_21 ⟨(Nat.le_of_ble_eq_true rfl), (Nat.le_of_ble_eq_true rfl)⟩) hP hD hS hA [22] [0, 1, 2, 3, 4, 5, 6, 7, 8, 9, 10, 11, 12, 13, 14, 15, 16, 17, 18, 19, 20, 21] [0, 1, 2, 3, 4, 5, 6, 7, 8, 9, 10, 11, 12, 13, 14, 15, 16, 17, 18, 19, 20, 21, 22] rfl rfl rfl rfl (by decide) rfl (fun _ => rfl) ?_
        clear hP hD hS
        intro u_23 _ H locs hP hD hS hk
        replace hN := hN.keep hk
        replace hq_q_22 := hq_q_22.keep hk
        clear hk
        refine vx_athrow hx hb dX9_check_24 ?_
        obtain ⟨ζ_24, e_ζ_24⟩ : ∃ x, x = (ζ_20.1, [(q_22, .inr (11, [.int (ζ_20.1.1 90), .ref q_19, .null, .null, .null, .null, .int (0 : Int32)]))] ++ ζ_20.2) := ⟨_, rfl⟩
        replace hN := MN.eqt (w2 := ζ_24.2) (w := [(q_22, .inr (11, [.int (ζ_20.1.1 90), .ref q_19, .null, .null, .null, .null, .int (0 : Int32)]))] ++ ζ_20.2) (MN.cons hq_q_22 hN) (by rw [e_ζ_24])
        replace hf := nm_some hf ζ_24 e_ζ_24
        replace hP := kp_P (w := (XW d z b ζ_20.1 ++ [(o, .inr (9, [.ref on, .int (ζ_20.1.1 90), .int (ζ_20.1.1 91), .ref (b 0)])), (on, .inr (3, [.int t.1, .int t.2.1, .int t.2.2]))])) (ks := [(q_22, .inr (11, [.int (ζ_20.1.1 90), .ref q_19, .null, .null, .null, .null, .int (0 : Int32)]))]) (w' := (XW d z b ζ_24.1 ++ [(o, .inr (9, [.ref on, .int (ζ_24.1.1 90), .int (ζ_24.1.1 91), .ref (b 0)])), (on, .inr (3, [.int t.1, .int t.2.1, .int t.2.2]))])) (t2 := ζ_24.2) (by rw [show ((XW d z b ζ_20.1 ++ [(o, .inr (9, [.ref on, .int (ζ_20.1.1 90), .int (ζ_20.1.1 91), .ref (b 0)])), (on, .inr (3, [.int t.1, .int t.2.1, .int t.2.2]))])) ++ [(q_22, .inr (11, [.int (ζ_20.1.1 90), .ref q_19, .null, .null, .null, .null, .int (0 : Int32)]))] = (XW d z b ζ_20.1 ++ [(o, .inr (9, [.ref on, .int (ζ_20.1.1 90), .int (ζ_20.1.1 91), .ref (b 0)])), (on, .inr (3, [.int t.1, .int t.2.1, .int t.2.2])), (q_22, .inr (11, [.int (ζ_20.1.1 90), .ref q_19, .null, .null, .null, .null, .int (0 : Int32)]))]) from rfl]; exact hP) (by subst e_ζ_24; rfl) (by subst e_ζ_24; rfl)
        replace hD := kp_D (w := (XW d z b ζ_20.1 ++ [(o, .inr (9, [.ref on, .int (ζ_20.1.1 90), .int (ζ_20.1.1 91), .ref (b 0)])), (on, .inr (3, [.int t.1, .int t.2.1, .int t.2.2]))])) (ks := [(q_22, .inr (11, [.int (ζ_20.1.1 90), .ref q_19, .null, .null, .null, .null, .int (0 : Int32)]))]) (w' := (XW d z b ζ_24.1 ++ [(o, .inr (9, [.ref on, .int (ζ_24.1.1 90), .int (ζ_24.1.1 91), .ref (b 0)])), (on, .inr (3, [.int t.1, .int t.2.1, .int t.2.2]))])) (t2 := ζ_24.2) (by rw [show ((XW d z b ζ_20.1 ++ [(o, .inr (9, [.ref on, .int (ζ_20.1.1 90), .int (ζ_20.1.1 91), .ref (b 0)])), (on, .inr (3, [.int t.1, .int t.2.1, .int t.2.2]))])) ++ [(q_22, .inr (11, [.int (ζ_20.1.1 90), .ref q_19, .null, .null, .null, .null, .int (0 : Int32)]))] = (XW d z b ζ_20.1 ++ [(o, .inr (9, [.ref on, .int (ζ_20.1.1 90), .int (ζ_20.1.1 91), .ref (b 0)])), (on, .inr (3, [.int t.1, .int t.2.1, .int t.2.2])), (q_22, .inr (11, [.int (ζ_20.1.1 90), .ref q_19, .null, .null, .null, .null, .int (0 : Int32)]))]) from rfl]; exact hD) (by subst e_ζ_24; rfl) (by subst e_ζ_24; rfl)
        have m_q_22 : (q_22, (.inr (11, [.int (ζ_20.1.1 90), .ref q_19, .null, .null, .null, .null, .int (0 : Int32)]) : va_E)) ∈ ζ_24.2 := by subst e_ζ_24; exact List.mem_append_left _ (List.mem_of_getElem? (i := 0) rfl)
        clear e_ζ_24
        refine vx_widen (k := 4) (n := 28) (Nat.le_of_ble_eq_true rfl) (Nat.le_of_ble_eq_true rfl) ?_
        exact hthr _ _ _ _ _ _ _ _ _ hf (fun z9 hz9 => by
        rw [htab] at hz9
        rcases List.mem_cons.mp hz9 with rfl | hz9
        · exact (Or.inl (by decide))
        rcases List.mem_cons.mp hz9 with rfl | hz9
        · exact (Or.inl (by decide))
        cases hz9) hP hD hS hN ⟨_, List.mem_append_right _ m_q_22⟩
      · replace hf := itU_f hf cc
        clear cc
        cases hf (fun _ => 0)
    · rintro ⟨u_26, ζ_25⟩ hφ H locs hP hD hS hk
      dsimp only at hP hD hk ⊢
      obtain ⟨hn, hk⟩ := hk
      replace hN := hN.keep hk
      replace hN := (hN.tr hn).eqt (w2 := ζ_25.2) rfl
      clear hn hk
      replace hf := fr_17 u_26 () ζ_25 hφ
      clear ft_16 fr_17 h_15 hφ
      replace hf := hf (fun _ => 0)
      refine lv_goto (tgt := 25) hx hb dX9_check_8 (by decide) ?_
      refine W.widen (k := 4) (n := 28) (Nat.le_of_ble_eq_true rfl) (Nat.le_of_ble_eq_true rfl) ?_
      exact hret _ _ _ _ _ _ _ hf dX9_check_25 hP hD hS hN
noncomputable def fX0_searchFrom (K : Nat) (d : Nat → ClassId) (p0 : Int32) (u : UU) (μ : XT) : Option (Int32 × XT) :=
  b2 (fX9_init K p0 μ.1) fun t_4 ξ_3 =>
  nm ((xmrgS μ.1 ξ_3, μ.2)) fun ζ_5 =>
  nm ((xI ζ_5.1 10 (ζ_5.1.1 91), ζ_5.2)) fun ζ_7 =>
  b3u u (fun u => fX9_check K d (t_4.1, t_4.2.1, t_4.2.2) u ζ_7) (fun c_12 q_13 ζ_14 u =>
      if c_12 = 11 then
        nm ((xP ζ_14.1 6 (fun _ => some q_13), ζ_14.2)) fun ζ_16 =>
        some ((-3 : Int32), ζ_16)
      else
        none
    ) fun _ ζ_17 u =>
    nm ((xP ζ_17.1 6 (fun _ => none), ζ_17.2)) fun ζ_19 =>
    b1u u (fun u => fX0_change K d (t_4.1, t_4.2.1, t_4.2.2) u ζ_19) fun ζ_22 u =>
    some (ζ_19.1.1 90, ζ_22)
set_option maxHeartbeats 4000000 in
set_option maxRecDepth 100000 in
theorem tX0_searchFrom (l : Launch) (D : va_G) (d : Nat → ClassId) (z : ZT) (b : Nat → Nat) (K : Nat) (p0 : Int32) (μ : XT) (y : UU → (Int32 × XT)) (hf : ∀ u, fX0_searchFrom K d p0 u μ = some (y u)) : CISM l yX0_searchFrom (wsW_ yX0_searchFrom cX0_searchFrom 4 (Option.some Jvm.ClassFile.FieldType.int) [((18 : Nat), (22 : Nat), (25 : Nat), (330 : Nat))]) (rmc 10 41011 123262 223) D d z [.ref (b 0), .int p0] (XW d z b μ.1 ++ μ.2) (fun u : UU => (y u).1) (fun u : UU => XW d z b (y u).2.1 ++ (y u).2.2) (fun _ => True) μ.2 (fun u => (y u).2.2) := by
  refine CISM.ofH (own := RX0) rfl (by decide) (Nat.le_of_ble_eq_true rfl) (fun _ => rfl) ?_
  intro p e s m args below meth c A Q ls S hin htab hK hP hD hZ hS hA hl hret0
  have hret : ∀ (U0 : UU) (x : Int32) (μx : XT) (H : Heap) (locs : List Loc) (pc : Nat) (ls' : Array Slot), some (x, μx) = some (y U0) → decode cX0_searchFrom pc = .ok (.ireturn, 1) → va_P D CL (XW d z b μx.1 ++ μx.2) H → va_D A (XW d z b μx.1 ++ μx.2) → va_S A s.heap H locs → MN μ.2 μx.2 H → W p l e (rmc 10 41011 123262 223) s m args below meth c H locs 41011 123262 Q (F0 m pc ls' [.int x]) := by
    intro U0 x μx H locs pc ls' h9 hdg hP hD hS hN
    have h8 := hret0 U0 trivial H locs pc ls' hdg
    rw [← Option.some.inj h9] at h8
    exact h8 hP hD hS hN
  have hx := S.1
  have hb := S.2.1
  have hts := S.2.2.2.2
  have hl : lv_has ls 4 [(0, .ref (b 0)), (1, .int p0)] := hl
  unfold fX0_searchFrom at hf
  have hN : MN μ.2 μ.2 s.heap := MN.rf
  refine g_newTM (w := XW d z b μ.1) (tl := μ.2) hx hb hts S.2.2.2.1 hK hP hD hS hA (ci := 9) in_X9 tyX9 tyX9_ok q1246 q1247 q121 rfl (fs := [.null, .int (0 : Int32), .int (0 : Int32), .null]) (fun j hj => by rcases (show j = 0 ∨ j = 1 ∨ j = 2 ∨ j = 3 by omega) with rfl | rfl | rfl | rfl <;> rfl) (Nat.le_of_ble_eq_true rfl) (Nat.le_of_ble_eq_true rfl) (w1 := fun q => (XW d z b μ.1 ++ [(q, .inr (9, [.null, .int (0 : Int32), .int (0 : Int32), .null]))])) (fun _ => rfl) dX0_searchFrom_0 ?_
  clear hP hD hS
  intro q_1 H hP hD hS hk _
  replace hN := hN.keep hk
  clear hk
  refine lv_dup hx hb dX0_searchFrom_3 rfl ?_
  refine lv_aload_n hx hb dX0_searchFrom_4 rfl (lv_at hl 0 rfl) ?_
  refine lv_iload_n hx hb dX0_searchFrom_5 rfl (lv_at hl 1 rfl) ?_
  obtain ⟨t_4, ξ_3, h_2, hf⟩ := b2U hf
  obtain ⟨ζ_5, e_ζ_5⟩ : ∃ x, x = (xmrgS μ.1 ξ_3, μ.2) := ⟨_, rfl⟩
  replace hN := hN.eqt (w2 := ζ_5.2) (by rw [e_ζ_5])
  refine run_vSM (w := (XW d z b μ.1 ++ [(q_1, .inr (9, [.null, .int (0 : Int32), .int (0 : Int32), .null]))])) (tl := μ.2) (wr := [(b 17, .inr (18, [.int (μ.1.1 70), .ref (b 18), .int (μ.1.1 72)])), (b 18, .inl (d 4, 16, .inr (.inr (.inr (.inr (μ.1.2.2.2.2 18)))))), (b 16, .inr (17, [.ref (b 19), .int (μ.1.1 81), .int (μ.1.1 82)])), (b 19, .inl (d 4, 17, .inr (.inr (.inr (.inr (μ.1.2.2.2.2 19))))))]) (w' := fun u => (XW d z b ζ_5.1 ++ [(q_1, .inr (9, [.ref u, .int (ζ_5.1.1 90), .int (ζ_5.1.1 91), .ref (b 0)])), (u, .inr (3, [.int t_4.1, .int t_4.2.1, .int t_4.2.2]))])) (va_runI (As := [.ref (b 0), .int p0]) (rest := [.ref q_1]) S (keV (tX9_init l D d z b (μ.1.2.2.2.2 6 0) K q_1 p0 μ.1 t_4 ξ_3 h_2 _) H) (cwI 2 hts (lw_meth q1250) rfl rfl rfl (hts _ q121) (hts _ q1248) (hts _ q1249) rfl (by decide +kernel) ⟨(Nat.le_of_ble_eq_true rfl), (Nat.le_of_ble_eq_true rfl)⟩) ⟨kbl Pw.blind, fun U hU hW => ⟨Pw.cut (w := (XW d z b μ.1 ++ [(q_1, .inr (9, [.null, .int (0 : Int32), .int (0 : Int32), .null]))])) (tl := μ.2) hK hP hD hZ hS hA [0, 1, 2, 3, 4, 5, 6, 7, 8, 9, 10, 11, 12, 13, 14, 15, 20] rfl rfl hU hW, hU⟩⟩ rfl rfl hl.1 rfl (lv_room (Nat.le_of_ble_eq_true rfl)) dX0_searchFrom_6 ⟨(Nat.le_of_ble_eq_true rfl), (Nat.le_of_ble_eq_true rfl)⟩) hP hD hS hA [0, 1, 2, 3, 4, 5, 6, 7, 8, 9, 10, 11, 12, 13, 14, 15, 20] [16, 17, 18, 19] [4, 5, 6, 7, 8, 9, 10, 11, 12, 13, 14, 15, 16, 17, 18, 19, 0, 1, 2, 3, 20, 21] rfl rfl rfl rfl (by decide) rfl (fun _ => by subst e_ζ_5; rfl) ?_
  clear hP hD hS
  intro q_6 _ H locs hP hD hS hk
  replace hN := hN.keep hk
  clear hk
  clear h_2
  rw [show μ.2 = ζ_5.2 from by subst e_ζ_5; rfl] at hP hD
  replace hf := nmU hf ζ_5 e_ζ_5
  clear e_ζ_5
  refine lv_astore_n (lv' := [(2, .ref q_1), (0, .ref (b 0)), (1, .int p0)]) hx hb dX0_searchFrom_9 rfl hl (by decide) rfl (fun ls hl => ?_)
  refine lv_aload_n hx hb dX0_searchFrom_10 rfl (lv_at hl 1 rfl) ?_
  refine lv_aload_n hx hb dX0_searchFrom_11 rfl (lv_at hl 0 rfl) ?_
  refine g_getN hx hb hts S.2.2.2.1 hK hP in_X9 20 rfl rfl 2 (by decide) q1278 (fun _ h9 => h9) (v := .int (ζ_5.1.1 91)) rfl dX0_searchFrom_12 ?_
  obtain ⟨ζ_7, e_ζ_7⟩ : ∃ x, x = (xI ζ_5.1 10 (ζ_5.1.1 91), ζ_5.2) := ⟨_, rfl⟩
  replace hN := hN.eqt (w2 := ζ_7.2) (by rw [e_ζ_7])
  refine g_putM hx hb hts S.2.2.2.1 hK hP hD hS in_X0 tyX0 tyX0_ok nmX0 0 rfl rfl 10 (by decide) q295 (fun _ h9 => h9) rfl (v := .int (ζ_5.1.1 91)) rfl rfl rfl (Nat.le_of_ble_eq_true rfl) (w' := (XW d z b ζ_7.1 ++ [(q_1, .inr (9, [.ref q_6, .int (ζ_7.1.1 90), .int (ζ_7.1.1 91), .ref (b 0)])), (q_6, .inr (3, [.int t_4.1, .int t_4.2.1, .int t_4.2.2]))]) ++ ζ_7.2) (by subst e_ζ_7; rfl) dX0_searchFrom_15 ?_
  clear hP hD hS
  intro H locs hP hD hS hk
  replace hN := hN.keep hk
  clear hk
  replace hf := nmU hf ζ_7 e_ζ_7
  clear e_ζ_7
  refine lv_aload_n hx hb dX0_searchFrom_18 rfl (lv_at hl 0 rfl) ?_
  obtain ⟨y_8, h_9, ft_10, fr_11⟩ := b3u_some hf
  refine runT_vM (vx_runVX (hh := [((0 : Nat), (8 : Nat), (11 : Nat), (81 : Nat)), ((0 : Nat), (8 : Nat), (11 : Nat), (116 : Nat))]) (As := []) (rest := []) S (kxV2 (tX9_check l D d z b K q_1 q_6 (t_4.1, t_4.2.1, t_4.2.2) ζ_7 y_8 h_9 _) H) (vx_cwVW 0 hts (lw_VW q1289 q1290 q1291 q121 q1292) rfl rfl rfl (by decide +kernel) ⟨(Nat.le_of_ble_eq_true rfl), (Nat.le_of_ble_eq_true rfl)⟩) ⟨kbl Pw.blind, (va_recv hK.1 hP (ci := 9) (q0 := 20) rfl rfl), fun U hU hW => ⟨Pw.at hK hP hD hZ hS hA hU hW, hU⟩⟩ rfl rfl hl.1 rfl (lv_room (Nat.le_of_ble_eq_true rfl)) dX0_searchFrom_19 ⟨(Nat.le_of_ble_eq_true rfl), (Nat.le_of_ble_eq_true rfl)⟩) hP hD hS hA ?_ ?_
  · rintro ⟨u_15, c_12, q_13, ζ_14⟩ hψ H locs hP hD hS hk hm
    dsimp only at hP hD hk hm ⊢
    obtain ⟨hn, hk⟩ := hk
    replace hN := hN.keep hk
    replace hN := (hN.tr hn).eqt (w2 := ζ_14.2) rfl
    clear hn hk
    replace hf := ft_10 u_15 c_12 q_13 ζ_14 hψ
    clear ft_10 fr_11 h_9 hψ
    by_cases cc : c_12 = 11
    · replace hf := itU_t hf cc
      subst cc
      obtain ⟨ce, g1, g2, g3⟩ := ex_cell hK hP hm
      refine vx_catch (own := RX0) (E := RX12) (name := RX12) S.2.2.2.1 ((tableOf [((18 : Nat), (22 : Nat), (25 : Nat), (330 : Nat))]).take 0) ((tableOf [((18 : Nat), (22 : Nat), (25 : Nat), (330 : Nat))])[0]) ((tableOf [((18 : Nat), (22 : Nat), (25 : Nat), (330 : Nat))]).drop 1) (by rw [htab]; rfl) (fun z9 hz9 => by
      cases hz9) (by decide) (by decide) (hts _ q1245) (va_Nw.use rfl (hK.2 _ q1326 rfl)) g1 g2 g3 ?_
      clear g1 g2 g3 ce
      replace hf := hf (fun _ => 0)
      refine lv_astore_n (lv' := [(3, .ref q_13), (2, .ref q_1), (0, .ref (b 0)), (1, .int p0)]) hx hb dX0_searchFrom_25 rfl hl (by decide) rfl (fun ls hl => ?_)
      refine lv_aload_n hx hb dX0_searchFrom_26 rfl (lv_at hl 2 rfl) ?_
      refine lv_aload_n hx hb dX0_searchFrom_27 rfl (lv_at hl 0 rfl) ?_
      obtain ⟨ζ_16, e_ζ_16⟩ : ∃ x, x = (xP ζ_14.1 6 (fun _ => some q_13), ζ_14.2) := ⟨_, rfl⟩
      replace hN := hN.eqt (w2 := ζ_16.2) (by rw [e_ζ_16])
      refine g_putM hx hb hts S.2.2.2.1 hK hP hD hS in_X0 tyX0 tyX0_ok nmX0 0 rfl rfl 6 (by decide) q288 (fun _ h9 => h9) rfl (v := .ref q_13) rfl rfl rfl (Nat.le_of_ble_eq_true rfl) (w' := (XW d z b ζ_16.1 ++ [(q_1, .inr (9, [.ref q_6, .int (ζ_16.1.1 90), .int (ζ_16.1.1 91), .ref (b 0)])), (q_6, .inr (3, [.int t_4.1, .int t_4.2.1, .int t_4.2.2]))]) ++ ζ_16.2) (by subst e_ζ_16; rfl) dX0_searchFrom_28 ?_
      clear hP hD hS
      intro H locs hP hD hS hk
      replace hN := hN.keep hk
      clear hk
      replace hf := nm_some hf ζ_16 e_ζ_16
      clear e_ζ_16
      refine lv_bipush (v := -3) hx hb dX0_searchFrom_31 (by decide) ?_
      refine W.widen (k := 41011) (n := 123262) (Nat.le_of_ble_eq_true rfl) (Nat.le_of_ble_eq_true rfl) ?_
      replace hP := wP_subT (w := (XW d z b ζ_16.1 ++ [(q_1, .inr (9, [.ref q_6, .int (ζ_16.1.1 90), .int (ζ_16.1.1 91), .ref (b 0)])), (q_6, .inr (3, [.int t_4.1, .int t_4.2.1, .int t_4.2.2]))])) (w1 := XW d z b ζ_16.1) hP [0, 1, 2, 3, 4, 5, 6, 7, 8, 9, 10, 11, 12, 13, 14, 15, 16, 17, 18, 19] rfl
      replace hD := wD_subT (w := (XW d z b ζ_16.1 ++ [(q_1, .inr (9, [.ref q_6, .int (ζ_16.1.1 90), .int (ζ_16.1.1 91), .ref (b 0)])), (q_6, .inr (3, [.int t_4.1, .int t_4.2.1, .int t_4.2.2]))])) (w1 := XW d z b ζ_16.1) hD [0, 1, 2, 3, 4, 5, 6, 7, 8, 9, 10, 11, 12, 13, 14, 15, 16, 17, 18, 19] rfl rfl
      exact hret _ _ _ _ _ _ _ hf dX0_searchFrom_33 hP hD hS hN
    · replace hf := itU_f hf cc
      clear cc
      cases hf (fun _ => 0)
  · rintro ⟨u_18, ζ_17⟩ hφ H locs hP hD hS hk
    dsimp only at hP hD hk ⊢
    obtain ⟨hn, hk⟩ := hk
    replace hN := hN.keep hk
    replace hN := (hN.tr hn).eqt (w2 := ζ_17.2) rfl
    clear hn hk
    replace hf := fr_11 u_18 () ζ_17 hφ
    clear ft_10 fr_11 h_9 hφ
    refine lv_goto (tgt := 34) hx hb dX0_searchFrom_22 (by decide) ?_
    refine lv_aload_n hx hb dX0_searchFrom_34 rfl (lv_at hl 1 rfl) ?_
    refine lv_null hx hb dX0_searchFrom_35 ?_
    obtain ⟨ζ_19, e_ζ_19⟩ : ∃ x, x = (xP ζ_17.1 6 (fun _ => none), ζ_17.2) := ⟨_, rfl⟩
    replace hN := hN.eqt (w2 := ζ_19.2) (by rw [e_ζ_19])
    refine g_putM hx hb hts S.2.2.2.1 hK hP hD hS in_X0 tyX0 tyX0_ok nmX0 0 rfl rfl 6 (by decide) q288 (fun _ h9 => h9) rfl (v := .null) rfl rfl rfl (Nat.le_of_ble_eq_true rfl) (w' := (XW d z b ζ_19.1 ++ [(q_1, .inr (9, [.ref q_6, .int (ζ_19.1.1 90), .int (ζ_19.1.1 91), .ref (b 0)])), (q_6, .inr (3, [.int t_4.1, .int t_4.2.1, .int t_4.2.2]))]) ++ ζ_19.2) (by subst e_ζ_19; rfl) dX0_searchFrom_36 ?_
    clear hP hD hS
    intro H locs hP hD hS hk
    replace hN := hN.keep hk
    clear hk
    replace hf := nmU hf ζ_19 e_ζ_19
    clear e_ζ_19
    refine lv_aload_n hx hb dX0_searchFrom_39 rfl (lv_at hl 1 rfl) ?_
    refine lv_aload_n hx hb dX0_searchFrom_40 rfl (lv_at hl 0 rfl) ?_
    refine g_getN hx hb hts S.2.2.2.1 hK hP in_X9 20 rfl rfl 0 (by decide) q1274 (fun _ h9 => h9) (v := .ref q_6) rfl dX0_searchFrom_41 ?_
    obtain ⟨y_21, h_20, hf⟩ := b1u_some hf
    have hPc := wP_subT (w := (XW d z b ζ_19.1 ++ [(q_1, .inr (9, [.ref q_6, .int (ζ_19.1.1 90), .int (ζ_19.1.1 91), .ref (b 0)])), (q_6, .inr (3, [.int t_4.1, .int t_4.2.1, .int t_4.2.2]))])) (w1 := (XW d z b ζ_19.1 ++ [(q_6, .inr (3, [.int t_4.1, .int t_4.2.1, .int t_4.2.2]))]) ++ [(q_1, .inr (9, [.ref q_6, .int (ζ_19.1.1 90), .int (ζ_19.1.1 91), .ref (b 0)]))]) hP [0, 1, 2, 3, 4, 5, 6, 7, 8, 9, 10, 11, 12, 13, 14, 15, 16, 17, 18, 19, 21, 20] rfl
    have hDc := wD_subT (w := (XW d z b ζ_19.1 ++ [(q_1, .inr (9, [.ref q_6, .int (ζ_19.1.1 90), .int (ζ_19.1.1 91), .ref (b 0)])), (q_6, .inr (3, [.int t_4.1, .int t_4.2.1, .int t_4.2.2]))])) (w1 := (XW d z b ζ_19.1 ++ [(q_6, .inr (3, [.int t_4.1, .int t_4.2.1, .int t_4.2.2]))]) ++ [(q_1, .inr (9, [.ref q_6, .int (ζ_19.1.1 90), .int (ζ_19.1.1 91), .ref (b 0)]))]) hD [0, 1, 2, 3, 4, 5, 6, 7, 8, 9, 10, 11, 12, 13, 14, 15, 16, 17, 18, 19, 21, 20] rfl rfl
    refine runX_vSM (wA := (XW d z b ζ_19.1 ++ [(q_6, .inr (3, [.int t_4.1, .int t_4.2.1, .int t_4.2.2]))])) (wB := [(q_1, .inr (9, [.ref q_6, .int (ζ_19.1.1 90), .int (ζ_19.1.1 91), .ref (b 0)]))]) (tl := ζ_19.2) (wA' := fun u => XW d z b (y_21 u).1) (tl' := fun u => (y_21 u).2) (va_runV (As := [.ref q_6]) (rest := []) S (keV (tX0_change l D d z b K q_6 (t_4.1, t_4.2.1, t_4.2.2) ζ_19 y_21 h_20 _) H) (cwV 1 hts (lw_V q1044 q1046 qs28 q94 q1047) rfl rfl rfl (by decide +kernel) ⟨(Nat.le_of_ble_eq_true rfl), (Nat.le_of_ble_eq_true rfl)⟩) ⟨kbl Pw.blind, (va_recv hK.1 hP (ci := 1) (q0 := 0) rfl rfl), fun U hU hW => ⟨Pw.atX (wB := [(q_1, .inr (9, [.ref q_6, .int (ζ_19.1.1 90), .int (ζ_19.1.1 91), .ref (b 0)]))]) hK hPc hDc hZ hS hA hU hW, hU⟩⟩ rfl rfl hl.1 rfl (lv_room (Nat.le_of_ble_eq_true rfl)) dX0_searchFrom_44 ⟨(Nat.le_of_ble_eq_true rfl), (Nat.le_of_ble_eq_true rfl)⟩) hPc hDc hS hA ?_
    clear hP hD hS hPc hDc
    intro u_23 _ H locs hP hD hS hk
    replace hN := hN.keep hk
    clear hk
    replace hf := hf u_23
    have hn := mn_change (h_20 u_23)
    generalize y_21 u_23 = ζ_22 at hf hP hD hn ⊢
    replace hN := hN.sub (w2 := ζ_22.2) hn
    clear hn
    clear h_20
    replace hf := hf (fun _ => 0)
    refine lv_aload_n hx hb dX0_searchFrom_47 rfl (lv_at hl 0 rfl) ?_
    refine g_getN hx hb hts S.2.2.2.1 hK hP in_X9 20 rfl rfl 1 (by decide) q1276 (fun _ h9 => h9) (v := .int (ζ_19.1.1 90)) rfl dX0_searchFrom_48 ?_
    refine W.widen (k := 41011) (n := 123262) (Nat.le_of_ble_eq_true rfl) (Nat.le_of_ble_eq_true rfl) ?_
    replace hP := wP_subT (w := (XW d z b ζ_22.1 ++ [(q_1, .inr (9, [.ref q_6, .int (ζ_19.1.1 90), .int (ζ_19.1.1 91), .ref (b 0)]))])) (w1 := XW d z b ζ_22.1) hP [0, 1, 2, 3, 4, 5, 6, 7, 8, 9, 10, 11, 12, 13, 14, 15, 16, 17, 18, 19] rfl
    replace hD := wD_subT (w := (XW d z b ζ_22.1 ++ [(q_1, .inr (9, [.ref q_6, .int (ζ_19.1.1 90), .int (ζ_19.1.1 91), .ref (b 0)]))])) (w1 := XW d z b ζ_22.1) hD [0, 1, 2, 3, 4, 5, 6, 7, 8, 9, 10, 11, 12, 13, 14, 15, 16, 17, 18, 19] rfl rfl
    exact hret _ _ _ _ _ _ _ hf dX0_searchFrom_51 hP hD hS hN
noncomputable def fX0_tune (K : Nat) (d : Nat → ClassId) (u : UU) (μ : XT) : Option (Int32 × XT) :=
  b2 (fX0_isReady K μ.1) fun r_2 ζ_3 =>
  nm ((xmrg μ.1 ζ_3, μ.2)) fun ζ_4 =>
  if r_2 = true then
    b2u u (fun u => fX0_searchFrom K d (ζ_4.1.1 61) u ζ_4) fun r_8 ζ_9 u =>
    some (r_8, ζ_9)
  else
    some ((-1 : Int32), ζ_4)
set_option maxHeartbeats 4000000 in
set_option maxRecDepth 100000 in
theorem tX0_tune (l : Launch) (D : va_G) (d : Nat → ClassId) (z : ZT) (b : Nat → Nat) (K : Nat) (μ : XT) (y : UU → (Int32 × XT)) (hf : ∀ u, fX0_tune K d u μ = some (y u)) : CISM l yX0_tune (ws_ yX0_tune cX0_tune 1 (Option.some Jvm.ClassFile.FieldType.int)) (rmc 11 41011 123262 246) D d z [.ref (b 0)] (XW d z b μ.1 ++ μ.2) (fun u : UU => (y u).1) (fun u : UU => XW d z b (y u).2.1 ++ (y u).2.2) (fun _ => True) μ.2 (fun u => (y u).2.2) := by
  refine CISM.of (own := RX0) rfl (by decide) (Nat.le_of_ble_eq_true rfl) (fun _ => rfl) ?_
  intro p e s m args below meth c A Q ls S hin hK hP hD hZ hS hA hl hret0
  have hret : ∀ (U0 : UU) (x : Int32) (μx : XT) (H : Heap) (locs : List Loc) (pc : Nat) (ls' : Array Slot), some (x, μx) = some (y U0) → decode cX0_tune pc = .ok (.ireturn, 1) → va_P D CL (XW d z b μx.1 ++ μx.2) H → va_D A (XW d z b μx.1 ++ μx.2) → va_S A s.heap H locs → MN μ.2 μx.2 H → W p l e (rmc 11 41011 123262 246) s m args below meth c H locs 41011 123262 Q (F0 m pc ls' [.int x]) := by
    intro U0 x μx H locs pc ls' h9 hdg hP hD hS hN
    have h8 := hret0 U0 trivial H locs pc ls' hdg
    rw [← Option.some.inj h9] at h8
    exact h8 hP hD hS hN
  have hx := S.1
  have hb := S.2.1
  have hts := S.2.2.2.2
  have hl : lv_has ls 1 [(0, .ref (b 0))] := hl
  unfold fX0_tune at hf
  have hN : MN μ.2 μ.2 s.heap := MN.rf
  refine lv_aload_n hx hb dX0_tune_0 rfl (lv_at hl 0 rfl) ?_
  obtain ⟨r_2, ζ_3, h_1, hf⟩ := b2U hf
  obtain ⟨ζ_4, e_ζ_4⟩ : ∃ x, x = (xmrg μ.1 ζ_3, μ.2) := ⟨_, rfl⟩
  replace hN := hN.eqt (w2 := ζ_4.2) (by rw [e_ζ_4])
  refine run_iM (w := XW d z b μ.1) (tl := μ.2) (wr := [(b 17, .inr (18, [.int (μ.1.1 70), .ref (b 18), .int (μ.1.1 72)])), (b 18, .inl (d 4, 16, .inr (.inr (.inr (.inr (μ.1.2.2.2.2 18)))))), (b 16, .inr (17, [.ref (b 19), .int (μ.1.1 81), .int (μ.1.1 82)])), (b 19, .inl (d 4, 17, .inr (.inr (.inr (.inr (μ.1.2.2.2.2 19))))))]) (w' := XW d z b ζ_4.1) (va_runV (As := []) (rest := []) S (keI (tX0_isReady l D d z b (μ.1.2.2.2.2 6 0) K μ.1 r_2 ζ_3 h_1 _) s.heap) (cwV 0 hts (lw_V q857 q859 qs18 q94 q860) rfl rfl rfl (by decide +kernel) ⟨(Nat.le_of_ble_eq_true rfl), (Nat.le_of_ble_eq_true rfl)⟩) ⟨kbl Pw.blind, (va_recv hK.1 hP (ci := 1) (q0 := 0) rfl rfl), fun U hU hW => ⟨Pw.cut (w := XW d z b μ.1) (tl := μ.2) hK hP hD hZ hS hA [0, 1, 2, 3, 4, 5, 6, 7, 8, 9, 10, 11, 12, 13, 14, 15] rfl rfl hU hW, hU⟩⟩ rfl rfl hl.1 rfl (lv_room (Nat.le_of_ble_eq_true rfl)) dX0_tune_1 ⟨(Nat.le_of_ble_eq_true rfl), (Nat.le_of_ble_eq_true rfl)⟩) hP hD hS hA [0, 1, 2, 3, 4, 5, 6, 7, 8, 9, 10, 11, 12, 13, 14, 15] [16, 17, 18, 19] [4, 5, 6, 7, 8, 9, 10, 11, 12, 13, 14, 15, 16, 17, 18, 19, 0, 1, 2, 3] rfl rfl rfl rfl (by decide) rfl (by subst e_ζ_4; rfl) ?_
  clear hP hD hS
  intro H locs hP hD hS hk
  replace hN := hN.keep hk
  clear hk
  rw [show μ.2 = ζ_4.2 from by subst e_ζ_4; rfl] at hP hD
  clear h_1
  replace hf := nmU hf ζ_4 e_ζ_4
  clear e_ζ_4
  refine lv_if_eq (tgt := 21) hx hb dX0_tune_4 (by decide) (fun c_5 => ?_) (fun c_5 => ?_)
  · replace hf := itU_f hf (bi_e0 c_5)
    clear c_5
    replace hf := hf (fun _ => 0)
    refine lv_iconst (v := -1) hx hb dX0_tune_21 (by decide) ?_
    refine W.widen (k := 41011) (n := 123262) (Nat.le_of_ble_eq_true rfl) (Nat.le_of_ble_eq_true rfl) ?_
    exact hret _ _ _ _ _ _ _ hf dX0_tune_22 hP hD hS hN
  · replace hf := itU_t hf (bi_n0 c_5)
    clear c_5
    refine lv_aload_n hx hb dX0_tune_7 rfl (lv_at hl 0 rfl) ?_
    refine lv_aload_n hx hb dX0_tune_8 rfl (lv_at hl 0 rfl) ?_
    refine g_get hx hb hts S.2.2.2.1 hK hP in_X0 0 rfl rfl 8 (by decide) q293 (fun _ h9 => h9) (v := .ref (b 13)) rfl dX0_tune_9 ?_
    refine g_getN hx hb hts S.2.2.2.1 hK hP in_X8 13 rfl rfl 1 (by decide) q812 (fun _ h9 => h9) (v := .int (ζ_4.1.1 61)) rfl dX0_tune_12 ?_
    obtain ⟨y_7, h_6, hf⟩ := b2u_some hf
    refine runW_iSM (vx_runVW (hh := [((18 : Nat), (22 : Nat), (25 : Nat), (330 : Nat))]) (As := [.int (ζ_4.1.1 61)]) (rest := []) S (keI2 (tX0_searchFrom l D d z b K (ζ_4.1.1 61) ζ_4 y_7 h_6 _) H) (vx_cwVW 1 hts (lw_VW q1241 q1243 qs35 q94 q1244) rfl rfl rfl (by decide +kernel) ⟨(Nat.le_of_ble_eq_true rfl), (Nat.le_of_ble_eq_true rfl)⟩) ⟨kbl Pw.blind, (va_recv hK.1 hP (ci := 1) (q0 := 0) rfl rfl), fun U hU hW => ⟨Pw.at hK hP hD hZ hS hA hU hW, hU⟩⟩ rfl rfl hl.1 rfl (lv_room (Nat.le_of_ble_eq_true rfl)) dX0_tune_15 ⟨(Nat.le_of_ble_eq_true rfl), (Nat.le_of_ble_eq_true rfl)⟩) hP hD hS hA ?_
    clear hP hD hS
    intro u_10 _ H locs hP hD hS hk
    obtain ⟨hn, hk⟩ := hk
    replace hN := hN.keep hk
    clear hk
    replace hf := hf u_10
    generalize y_7 u_10 = w_11 at hf hP hD hn ⊢
    obtain ⟨r_8, ζ_9⟩ := w_11
    dsimp only at hf hP hD hn ⊢
    replace hN := (hN.tr hn).eqt (w2 := ζ_9.2) rfl
    clear hn
    clear h_6
    replace hf := hf (fun _ => 0)
    refine lv_goto (tgt := 22) hx hb dX0_tune_18 (by decide) ?_
    refine W.widen (k := 41011) (n := 123262) (Nat.le_of_ble_eq_true rfl) (Nat.le_of_ble_eq_true rfl) ?_
    exact hret _ _ _ _ _ _ _ hf dX0_tune_22 hP hD hS hN
noncomputable def fX0_tuneCold (K : Nat) (d : Nat → ClassId) (u : UU) (μ : XT) : Option (Int32 × XT) :=
  b2 (fX0_isReady K μ.1) fun r_2 ζ_3 =>
  nm ((xmrg μ.1 ζ_3, μ.2)) fun ζ_4 =>
  if r_2 = true then
    b2u u (fun u => fX0_searchFrom K d (0 : Int32) u ζ_4) fun r_8 ζ_9 u =>
    some (r_8, ζ_9)
  else
    some ((-1 : Int32), ζ_4)
set_option maxHeartbeats 4000000 in
set_option maxRecDepth 100000 in
theorem tX0_tuneCold (l : Launch) (D : va_G) (d : Nat → ClassId) (z : ZT) (b : Nat → Nat) (K : Nat) (μ : XT) (y : UU → (Int32 × XT)) (hf : ∀ u, fX0_tuneCold K d u μ = some (y u)) : CISM l yX0_tuneCold (ws_ yX0_tuneCold cX0_tuneCold 1 (Option.some Jvm.ClassFile.FieldType.int)) (rmc 11 41011 123262 246) D d z [.ref (b 0)] (XW d z b μ.1 ++ μ.2) (fun u : UU => (y u).1) (fun u : UU => XW d z b (y u).2.1 ++ (y u).2.2) (fun _ => True) μ.2 (fun u => (y u).2.2) := by
  refine CISM.of (own := RX0) rfl (by decide) (Nat.le_of_ble_eq_true rfl) (fun _ => rfl) ?_
  intro p e s m args below meth c A Q ls S hin hK hP hD hZ hS hA hl hret0
  have hret : ∀ (U0 : UU) (x : Int32) (μx : XT) (H : Heap) (locs : List Loc) (pc : Nat) (ls' : Array Slot), some (x, μx) = some (y U0) → decode cX0_tuneCold pc = .ok (.ireturn, 1) → va_P D CL (XW d z b μx.1 ++ μx.2) H → va_D A (XW d z b μx.1 ++ μx.2) → va_S A s.heap H locs → MN μ.2 μx.2 H → W p l e (rmc 11 41011 123262 246) s m args below meth c H locs 41011 123262 Q (F0 m pc ls' [.int x]) := by
    intro U0 x μx H locs pc ls' h9 hdg hP hD hS hN
    have h8 := hret0 U0 trivial H locs pc ls' hdg
    rw [← Option.some.inj h9] at h8
    exact h8 hP hD hS hN
  have hx := S.1
  have hb := S.2.1
  have hts := S.2.2.2.2
  have hl : lv_has ls 1 [(0, .ref (b 0))] := hl
  unfold fX0_tuneCold at hf
  have hN : MN μ.2 μ.2 s.heap := MN.rf
  refine lv_aload_n hx hb dX0_tuneCold_0 rfl (lv_at hl 0 rfl) ?_
  obtain ⟨r_2, ζ_3, h_1, hf⟩ := b2U hf
  obtain ⟨ζ_4, e_ζ_4⟩ : ∃ x, x = (xmrg μ.1 ζ_3, μ.2) := ⟨_, rfl⟩
  replace hN := hN.eqt (w2 := ζ_4.2) (by rw [e_ζ_4])
  refine run_iM (w := XW d z b μ.1) (tl := μ.2) (wr := [(b 17, .inr (18, [.int (μ.1.1 70), .ref (b 18), .int (μ.1.1 72)])), (b 18, .inl (d 4, 16, .inr (.inr (.inr (.inr (μ.1.2.2.2.2 18)))))), (b 16, .inr (17, [.ref (b 19), .int (μ.1.1 81), .int (μ.1.1 82)])), (b 19, .inl (d 4, 17, .inr (.inr (.inr (.inr (μ.1.2.2.2.2 19))))))]) (w' := XW d z b ζ_4.1) (va_runV (As := []) (rest := []) S (keI (tX0_isReady l D d z b (μ.1.2.2.2.2 6 0) K μ.1 r_2 ζ_3 h_1 _) s.heap) (cwV 0 hts (lw_V q857 q859 qs18 q94 q860) rfl rfl rfl (by decide +kernel) ⟨(Nat.le_of_ble_eq_true rfl), (Nat.le_of_ble_eq_true rfl)⟩) ⟨kbl Pw.blind, (va_recv hK.1 hP (ci := 1) (q0 := 0) rfl rfl), fun U hU hW => ⟨Pw.cut (w := XW d z b μ.1) (tl := μ.2) hK hP hD hZ hS hA [0, 1, 2, 3, 4, 5, 6, 7, 8, 9, 10, 11, 12, 13, 14, 15] rfl rfl hU hW, hU⟩⟩ rfl rfl hl.1 rfl (lv_room (Nat.le_of_ble_eq_true rfl)) dX0_tuneCold_1 ⟨(Nat.le_of_ble_eq_true rfl), (Nat.le_of_ble_eq_true rfl)⟩) hP hD hS hA [0, 1, 2, 3, 4, 5, 6, 7, 8, 9, 10, 11, 12, 13, 14, 15] [16, 17, 18, 19] [4, 5, 6, 7, 8, 9, 10, 11, 12, 13, 14, 15, 16, 17, 18, 19, 0, 1, 2, 3] rfl rfl rfl rfl (by decide) rfl (by subst e_ζ_4; rfl) ?_
  clear hP hD hS
  intro H locs hP hD hS hk
  replace hN := hN.keep hk
  clear hk
  rw [show μ.2 = ζ_4.2 from by subst e_ζ_4; rfl] at hP hD
  clear h_1
  replace hf := nmU hf ζ_4 e_ζ_4
  clear e_ζ_4
  refine lv_if_eq (tgt := 15) hx hb dX0_tuneCold_4 (by decide) (fun c_5 => ?_) (fun c_5 => ?_)
  · replace hf := itU_f hf (bi_e0 c_5)
    clear c_5
    replace hf := hf (fun _ => 0)
    refine lv_iconst (v := -1) hx hb dX0_tuneCold_15 (by decide) ?_
    refine W.widen (k := 41011) (n := 123262) (Nat.le_of_ble_eq_true rfl) (Nat.le_of_ble_eq_true rfl) ?_
    exact hret _ _ _ _ _ _ _ hf dX0_tuneCold_16 hP hD hS hN
  · replace hf := itU_t hf (bi_n0 c_5)
    clear c_5
    refine lv_aload_n hx hb dX0_tuneCold_7 rfl (lv_at hl 0 rfl) ?_
    refine lv_iconst (v := 0) hx hb dX0_tuneCold_8 (by decide) ?_
    obtain ⟨y_7, h_6, hf⟩ := b2u_some hf
    refine runW_iSM (vx_runVW (hh := [((18 : Nat), (22 : Nat), (25 : Nat), (330 : Nat))]) (As := [.int (0 : Int32)]) (rest := []) S (keI2 (tX0_searchFrom l D d z b K (0 : Int32) ζ_4 y_7 h_6 _) H) (vx_cwVW 1 hts (lw_VW q1241 q1243 qs35 q94 q1244) rfl rfl rfl (by decide +kernel) ⟨(Nat.le_of_ble_eq_true rfl), (Nat.le_of_ble_eq_true rfl)⟩) ⟨kbl Pw.blind, (va_recv hK.1 hP (ci := 1) (q0 := 0) rfl rfl), fun U hU hW => ⟨Pw.at hK hP hD hZ hS hA hU hW, hU⟩⟩ rfl rfl hl.1 rfl (lv_room (Nat.le_of_ble_eq_true rfl)) dX0_tuneCold_9 ⟨(Nat.le_of_ble_eq_true rfl), (Nat.le_of_ble_eq_true rfl)⟩) hP hD hS hA ?_
    clear hP hD hS
    intro u_10 _ H locs hP hD hS hk
    obtain ⟨hn, hk⟩ := hk
    replace hN := hN.keep hk
    clear hk
    replace hf := hf u_10
    generalize y_7 u_10 = w_11 at hf hP hD hn ⊢
    obtain ⟨r_8, ζ_9⟩ := w_11
    dsimp only at hf hP hD hn ⊢
    replace hN := (hN.tr hn).eqt (w2 := ζ_9.2) rfl
    clear hn
    clear h_6
    replace hf := hf (fun _ => 0)
    refine lv_goto (tgt := 16) hx hb dX0_tuneCold_12 (by decide) ?_
    refine W.widen (k := 41011) (n := 123262) (Nat.le_of_ble_eq_true rfl) (Nat.le_of_ble_eq_true rfl) ?_
    exact hret _ _ _ _ _ _ _ hf dX0_tuneCold_16 hP hD hS hN
noncomputable def fX0_suitable_L4 (K : Nat) (d : Nat → ClassId) : Nat → Int32 → Int32 → UU → XT → Option (XR Int32 XT)
  | 0, _, _, _, _ => none
  | n + 1, x4_1, x4_2, u, μ4 =>
    b1 (fJ14_size K (μ4.1.1 70, μ4.1.1 72, μ4.1.2.2.2.2 18)) fun r_2 =>
    if r_2 ≤ x4_2 then
      if x4_1 = (-1 : Int32) then
        b1 (fX6_bandOf K (μ4.1.1 60) μ4.1) fun r_6 =>
        if r_6 = (-2 : Int32) then
          ask u fun q_11 u =>
          ask u fun q_12 u =>
          nm ((μ4.1, [(q_11, .inr (14, [.int (μ4.1.1 60), .ref q_12, .null, .null, .null, .null, .int (0 : Int32)])), (q_12, .inr (15, [.int (0 : Int32), .null, .null, .null, .null, .null, .int (0 : Int32)]))] ++ μ4.2)) fun ζ_15 =>
          some (.inl (14, q_11, ζ_15))
        else
          ask u fun q_8 u =>
          nm ((μ4.1, [(q_8, .inr (14, [.int (μ4.1.1 60), .null, .null, .null, .null, .null, .int (0 : Int32)]))] ++ μ4.2)) fun ζ_10 =>
          some (.inl (14, q_8, ζ_10))
      else
        some (.inr (x4_1, μ4))
    else
      b1 (fJ14_get K x4_2 (μ4.1.1 70, μ4.1.1 72, μ4.1.2.2.2.2 18)) fun r_17 =>
      b1 (entOf μ4.2 r_17) fun t_18 =>
      b2 (fX0_isSuitable K r_17 t_18 μ4) fun r_21 ζ_22 =>
      if r_21 = true then
        if x4_1 = (-1 : Int32) then
          fX0_suitable_L4 K d n x4_2 (x4_2 + (1 : Int32)) u ζ_22
        else
          b2 (fX0_distanceTo K x4_2 ζ_22) fun r_26 ζ_27 =>
          b2 (fX0_distanceTo K x4_1 ζ_27) fun r_29 ζ_30 =>
          if r_29 ≤ r_26 then
            fX0_suitable_L4 K d n x4_1 (x4_2 + (1 : Int32)) u ζ_30
          else
            fX0_suitable_L4 K d n x4_2 (x4_2 + (1 : Int32)) u ζ_30
      else
        fX0_suitable_L4 K d n x4_1 (x4_2 + (1 : Int32)) u ζ_22
noncomputable def fX0_suitable (K : Nat) (d : Nat → ClassId) (u : UU) (μ : XT) : Option (XR Int32 XT) :=
  fX0_suitable_L4 K d K (-1 : Int32) (0 : Int32) u μ
set_option maxHeartbeats 4000000 in
set_option maxRecDepth 100000 in
theorem tX0_suitable (l : Launch) (D : va_G) (d : Nat → ClassId) (z : ZT) (b : Nat → Nat) (K : Nat) (μ : XT) (y : UU → XR Int32 XT) (hf : ∀ u, fX0_suitable K d u μ = some (y u)) : CIXM l yX0_suitable (ws_ yX0_suitable cX0_suitable 3 (Option.some Jvm.ClassFile.FieldType.int)) (rmc 5 2 14 104) D d z [.ref (b 0)] (XW d z b μ.1 ++ μ.2) (fun u : UU × Int32 × XT => u.2.1) (fun u => XW d z b u.2.2.1 ++ u.2.2.2) (fun u => y u.1 = .inr (u.2.1, u.2.2)) (fun u : UU × Nat × Nat × XT => (u.2.1, u.2.2.1)) (fun u => XW d z b u.2.2.2.1 ++ u.2.2.2.2) (fun u => y u.1 = .inl u.2) μ.2 (fun u => u.2.2.2) (fun u => u.2.2.2.2) := by
  refine CIXM.of (own := RX0) rfl (by decide) (Nat.le_of_ble_eq_true rfl) (fun _ => rfl) ?_
  intro p e s m args below meth c A Q ls S hin hK hP hD hZ hS hA hl hret0 hthr0
  have hret : ∀ (U0 : UU) (x : Int32) (μx : XT) (H : Heap) (locs : List Loc) (pc : Nat) (ls' : Array Slot), some (Sum.inr (x, μx)) = some (y U0) → decode cX0_suitable pc = .ok (.ireturn, 1) → va_P D CL (XW d z b μx.1 ++ μx.2) H → va_D A (XW d z b μx.1 ++ μx.2) → va_S A s.heap H locs → MN μ.2 μx.2 H → W p l e (rmc 5 2 14 104) s m args below meth c H locs 2 14 Q (F0 m pc ls' [.int x]) := by
    intro U0 x μx H locs pc ls' h9 hdg hP hD hS hN
    exact hret0 (U0, x, μx) (Option.some.inj h9).symm H locs pc ls' hdg hP hD hS hN
  have hthr : ∀ (U0 : UU) (c9 q9 : Nat) (μx : XT) (H : Heap) (locs : List Loc) (pc : Nat) (ls' : Array Slot) (st' : List Value), some (Sum.inl (c9, q9, μx)) = some (y U0) → va_P D CL (XW d z b μx.1 ++ μx.2) H → va_D A (XW d z b μx.1 ++ μx.2) → va_S A s.heap H locs → MN μ.2 μx.2 H → (∃ fs, (q9, (.inr (c9, fs) : va_E)) ∈ XW d z b μx.1 ++ μx.2) → vx_W p l e (rmc 5 2 14 104) s m args below meth c H locs 2 14 Q (F0 m pc ls' st') q9 := by
    intro U0 c9 q9 μx H locs pc ls' st' h9 hP hD hS hN hm
    exact hthr0 (U0, c9, q9, μx) (Option.some.inj h9).symm H locs pc ls' st' hP hD hS hN hm
  have hx := S.1
  have hb := S.2.1
  have hts := S.2.2.2.2
  have hl : lv_has ls 3 [(0, .ref (b 0))] := hl
  have L4 : ∀ (n : Nat) (x4_1 : Int32) (x4_2 : Int32) (μ4 : XT) (G0 : UU → UU) (H : Heap) (locs : List Loc) (ls : Array Slot), (∀ u, fX0_suitable_L4 K d n x4_1 x4_2 u μ4 = some (y (G0 u))) → va_P D CL (XW d z b μ4.1 ++ μ4.2) H → va_D A (XW d z b μ4.1 ++ μ4.2) → va_S A s.heap H locs → MN μ.2 μ4.2 H → lv_has ls 3 [(0, .ref (b 0)), (1, .int x4_1), (2, .int x4_2)] → W p l e (rmc 5 2 14 104) s m args below meth c H locs 0 0 Q (F0 m 4 ls []) := by
    intro n
    induction n with
    | zero =>
      intro x4_1 x4_2 μ4 G0 H locs ls hf hP hD hS hN hl
      have hf := hf (fun _ => 0)
      rw [fX0_suitable_L4] at hf
      cases hf
    | succ n ih =>
      intro x4_1 x4_2 μ4 G0 H locs ls hf hP hD hS hN hl
      replace hf : ∀ u : UU, (
        b1 (fJ14_size K (μ4.1.1 70, μ4.1.1 72, μ4.1.2.2.2.2 18)) fun r_2 =>
        if r_2 ≤ x4_2 then
          if x4_1 = (-1 : Int32) then
            b1 (fX6_bandOf K (μ4.1.1 60) μ4.1) fun r_6 =>
            if r_6 = (-2 : Int32) then
              ask u fun q_11 u =>
              ask u fun q_12 u =>
              nm ((μ4.1, [(q_11, .inr (14, [.int (μ4.1.1 60), .ref q_12, .null, .null, .null, .null, .int (0 : Int32)])), (q_12, .inr (15, [.int (0 : Int32), .null, .null, .null, .null, .null, .int (0 : Int32)]))] ++ μ4.2)) fun ζ_15 =>
              some (.inl (14, q_11, ζ_15))
            else
              ask u fun q_8 u =>
              nm ((μ4.1, [(q_8, .inr (14, [.int (μ4.1.1 60), .null, .null, .null, .null, .null, .int (0 : Int32)]))] ++ μ4.2)) fun ζ_10 =>
              some (.inl (14, q_8, ζ_10))
          else
            some (.inr (x4_1, μ4))
        else
          b1 (fJ14_get K x4_2 (μ4.1.1 70, μ4.1.1 72, μ4.1.2.2.2.2 18)) fun r_17 =>
          b1 (entOf μ4.2 r_17) fun t_18 =>
          b2 (fX0_isSuitable K r_17 t_18 μ4) fun r_21 ζ_22 =>
          if r_21 = true then
            if x4_1 = (-1 : Int32) then
              fX0_suitable_L4 K d n x4_2 (x4_2 + (1 : Int32)) u ζ_22
            else
              b2 (fX0_distanceTo K x4_2 ζ_22) fun r_26 ζ_27 =>
              b2 (fX0_distanceTo K x4_1 ζ_27) fun r_29 ζ_30 =>
              if r_29 ≤ r_26 then
                fX0_suitable_L4 K d n x4_1 (x4_2 + (1 : Int32)) u ζ_30
              else
                fX0_suitable_L4 K d n x4_2 (x4_2 + (1 : Int32)) u ζ_30
          else
            fX0_suitable_L4 K d n x4_1 (x4_2 + (1 : Int32)) u ζ_22
        ) = some (y (G0 u)) := hf
      refine lv_iload_n hx hb dX0_suitable_4 rfl (lv_at hl 2 rfl) ?_
      refine lv_aload_n hx hb dX0_suitable_5 rfl (lv_at hl 0 rfl) ?_
      refine g_get hx hb hts S.2.2.2.1 hK hP in_X0 0 rfl rfl 8 (by decide) q293 (fun _ h9 => h9) (v := .ref (b 13)) rfl dX0_suitable_6 ?_
      refine g_getN hx hb hts S.2.2.2.1 hK hP in_X8 13 rfl rfl 7 (by decide) q823 (fun _ h9 => h9) (v := .ref (b 17)) rfl dX0_suitable_9 ?_
      obtain ⟨r_2, h_1, hf⟩ := b1U hf
      have hPc := toT_P (isC := [16, 17]) (isR := [0, 1, 2, 3, 4, 5, 6, 7, 8, 9, 10, 11, 12, 13, 14, 15, 18, 19]) (wc := ALP d (b 17) (b 18) (μ4.1.1 70, μ4.1.1 72, μ4.1.2.2.2.2 18)) (wr := [(b 0, .inr (1, [.ref (b 1), .int (μ4.1.1 1), .int (μ4.1.1 2), .ref (b 2), .ref (b 3), .ref (b 4), va_rf (μ4.1.2.2.2.2 6 0), .ref (b 7), .ref (b 13), .ref (b 16), .int (μ4.1.1 10)])), (b 1, .inl (d 2, 500, .inl (μ4.1.2.2.1 1))), (b 2, .inl (d 5, 2, .inr (.inr (.inr (.inr (fun j => some (z.2.2 j))))))), (b 3, .inl (d 6, 5, .inr (.inr (.inr (.inr (fun j => some (z.2.2 (2 + j)))))))), (b 4, .inr (4, [.int (μ4.1.1 20), .long (μ4.1.2.1 21), .long (μ4.1.2.1 22), .long (μ4.1.2.1 23), .ref (b 5), .ref (b 6), .ref (b 0)])), (b 5, .inr (2, [.long (μ4.1.2.1 30), .long (μ4.1.2.1 31)])), (b 6, .inr (2, [.long (μ4.1.2.1 32), .long (μ4.1.2.1 33)])), (b 7, .inr (6, [.int (μ4.1.1 40), .int (μ4.1.1 41), .int (μ4.1.1 42), .int (μ4.1.1 43), .int (μ4.1.1 44), .int (μ4.1.1 45), .ref (b 8), .ref (b 9), .ref (b 10), .int (μ4.1.1 49), .ref (b 11), .ref (b 12), .int (μ4.1.1 52)])), (b 8, .inl (d 0, 16, .inl (μ4.1.2.2.1 46))), (b 9, .inl (d 1, 16, .inr (.inl (μ4.1.2.2.2.1 47)))), (b 10, .inl (d 1, 16, .inr (.inl (μ4.1.2.2.2.1 48)))), (b 11, .inl (d 0, 8, .inl (μ4.1.2.2.1 50))), (b 12, .inl (d 0, 8, .inl (μ4.1.2.2.1 51))), (b 13, .inr (8, [.int (μ4.1.1 60), .int (μ4.1.1 61), .int (μ4.1.1 62), .int (μ4.1.1 63), .ref (b 14), .ref (b 15), .int (μ4.1.1 66), .ref (b 17)])), (b 14, .inl (d 0, 100, .inl (μ4.1.2.2.1 64))), (b 15, .inl (d 3, 100, .inl (μ4.1.2.2.1 65))), (b 16, .inr (17, [.ref (b 19), .int (μ4.1.1 81), .int (μ4.1.1 82)])), (b 19, .inl (d 4, 17, .inr (.inr (.inr (.inr (μ4.1.2.2.2.2 19))))))]) (w := XW d z b μ4.1) (tl := μ4.2) hP rfl rfl
      have hDc := toT_D (isC := [16, 17]) (isR := [0, 1, 2, 3, 4, 5, 6, 7, 8, 9, 10, 11, 12, 13, 14, 15, 18, 19]) (wc := ALP d (b 17) (b 18) (μ4.1.1 70, μ4.1.1 72, μ4.1.2.2.2.2 18)) (wr := [(b 0, .inr (1, [.ref (b 1), .int (μ4.1.1 1), .int (μ4.1.1 2), .ref (b 2), .ref (b 3), .ref (b 4), va_rf (μ4.1.2.2.2.2 6 0), .ref (b 7), .ref (b 13), .ref (b 16), .int (μ4.1.1 10)])), (b 1, .inl (d 2, 500, .inl (μ4.1.2.2.1 1))), (b 2, .inl (d 5, 2, .inr (.inr (.inr (.inr (fun j => some (z.2.2 j))))))), (b 3, .inl (d 6, 5, .inr (.inr (.inr (.inr (fun j => some (z.2.2 (2 + j)))))))), (b 4, .inr (4, [.int (μ4.1.1 20), .long (μ4.1.2.1 21), .long (μ4.1.2.1 22), .long (μ4.1.2.1 23), .ref (b 5), .ref (b 6), .ref (b 0)])), (b 5, .inr (2, [.long (μ4.1.2.1 30), .long (μ4.1.2.1 31)])), (b 6, .inr (2, [.long (μ4.1.2.1 32), .long (μ4.1.2.1 33)])), (b 7, .inr (6, [.int (μ4.1.1 40), .int (μ4.1.1 41), .int (μ4.1.1 42), .int (μ4.1.1 43), .int (μ4.1.1 44), .int (μ4.1.1 45), .ref (b 8), .ref (b 9), .ref (b 10), .int (μ4.1.1 49), .ref (b 11), .ref (b 12), .int (μ4.1.1 52)])), (b 8, .inl (d 0, 16, .inl (μ4.1.2.2.1 46))), (b 9, .inl (d 1, 16, .inr (.inl (μ4.1.2.2.2.1 47)))), (b 10, .inl (d 1, 16, .inr (.inl (μ4.1.2.2.2.1 48)))), (b 11, .inl (d 0, 8, .inl (μ4.1.2.2.1 50))), (b 12, .inl (d 0, 8, .inl (μ4.1.2.2.1 51))), (b 13, .inr (8, [.int (μ4.1.1 60), .int (μ4.1.1 61), .int (μ4.1.1 62), .int (μ4.1.1 63), .ref (b 14), .ref (b 15), .int (μ4.1.1 66), .ref (b 17)])), (b 14, .inl (d 0, 100, .inl (μ4.1.2.2.1 64))), (b 15, .inl (d 3, 100, .inl (μ4.1.2.2.1 65))), (b 16, .inr (17, [.ref (b 19), .int (μ4.1.1 81), .int (μ4.1.1 82)])), (b 19, .inl (d 4, 17, .inr (.inr (.inr (.inr (μ4.1.2.2.2.2 19))))))]) (w := XW d z b μ4.1) (tl := μ4.2) hD rfl rfl rfl
      refine runW_iM (va_runV (As := []) (rest := [.int x4_2]) S (keI (tJ14_size l D d z (b 17) (b 18) ([(b 0, .inr (1, [.ref (b 1), .int (μ4.1.1 1), .int (μ4.1.1 2), .ref (b 2), .ref (b 3), .ref (b 4), va_rf (μ4.1.2.2.2.2 6 0), .ref (b 7), .ref (b 13), .ref (b 16), .int (μ4.1.1 10)])), (b 1, .inl (d 2, 500, .inl (μ4.1.2.2.1 1))), (b 2, .inl (d 5, 2, .inr (.inr (.inr (.inr (fun j => some (z.2.2 j))))))), (b 3, .inl (d 6, 5, .inr (.inr (.inr (.inr (fun j => some (z.2.2 (2 + j)))))))), (b 4, .inr (4, [.int (μ4.1.1 20), .long (μ4.1.2.1 21), .long (μ4.1.2.1 22), .long (μ4.1.2.1 23), .ref (b 5), .ref (b 6), .ref (b 0)])), (b 5, .inr (2, [.long (μ4.1.2.1 30), .long (μ4.1.2.1 31)])), (b 6, .inr (2, [.long (μ4.1.2.1 32), .long (μ4.1.2.1 33)])), (b 7, .inr (6, [.int (μ4.1.1 40), .int (μ4.1.1 41), .int (μ4.1.1 42), .int (μ4.1.1 43), .int (μ4.1.1 44), .int (μ4.1.1 45), .ref (b 8), .ref (b 9), .ref (b 10), .int (μ4.1.1 49), .ref (b 11), .ref (b 12), .int (μ4.1.1 52)])), (b 8, .inl (d 0, 16, .inl (μ4.1.2.2.1 46))), (b 9, .inl (d 1, 16, .inr (.inl (μ4.1.2.2.2.1 47)))), (b 10, .inl (d 1, 16, .inr (.inl (μ4.1.2.2.2.1 48)))), (b 11, .inl (d 0, 8, .inl (μ4.1.2.2.1 50))), (b 12, .inl (d 0, 8, .inl (μ4.1.2.2.1 51))), (b 13, .inr (8, [.int (μ4.1.1 60), .int (μ4.1.1 61), .int (μ4.1.1 62), .int (μ4.1.1 63), .ref (b 14), .ref (b 15), .int (μ4.1.1 66), .ref (b 17)])), (b 14, .inl (d 0, 100, .inl (μ4.1.2.2.1 64))), (b 15, .inl (d 3, 100, .inl (μ4.1.2.2.1 65))), (b 16, .inr (17, [.ref (b 19), .int (μ4.1.1 81), .int (μ4.1.1 82)])), (b 19, .inl (d 4, 17, .inr (.inr (.inr (.inr (μ4.1.2.2.2.2 19))))))] ++ μ4.2) K (μ4.1.1 70, μ4.1.1 72, μ4.1.2.2.2.2 18) r_2 h_1 _) H) (cwV 0 hts (lw_V q1392 q938 q939 q118 q940) rfl rfl rfl (by decide +kernel) ⟨(Nat.le_of_ble_eq_true rfl), (Nat.le_of_ble_eq_true rfl)⟩) ⟨kbl Pw.blind, (va_recv hK.1 hP (ci := 18) (q0 := 16) rfl rfl), fun U hU hW => ⟨Pw.at hK hPc hDc hZ hS hA hU hW, hU⟩⟩ rfl rfl hl.1 rfl (lv_room (Nat.le_of_ble_eq_true rfl)) dX0_suitable_12 ⟨(Nat.le_of_ble_eq_true rfl), (Nat.le_of_ble_eq_true rfl)⟩) hPc hDc hS hA ?_
      clear hP hD hS hPc hDc
      intro H locs hP hD hS hk
      replace hN := hN.keep hk
      clear hk
      replace hP := ofT_P (perm := [2, 3, 4, 5, 6, 7, 8, 9, 10, 11, 12, 13, 14, 15, 16, 17, 0, 1, 18, 19]) (w' := XW d z b μ4.1) hP rfl
      replace hD := ofT_D (perm := [2, 3, 4, 5, 6, 7, 8, 9, 10, 11, 12, 13, 14, 15, 16, 17, 0, 1, 18, 19]) (w' := XW d z b μ4.1) hD rfl rfl
      clear h_1
      refine lv_icmp_ge (tgt := 65) hx hb dX0_suitable_15 (by decide) (fun c_3 => ?_) (fun c_3 => ?_)
      · replace hf := itU_t hf c_3
        clear c_3
        refine lv_iload_n hx hb dX0_suitable_65 rfl (lv_at hl 1 rfl) ?_
        refine lv_iconst (v := -1) hx hb dX0_suitable_66 (by decide) ?_
        refine lv_icmp_ne (tgt := 125) hx hb dX0_suitable_67 (by decide) (fun c_4 => ?_) (fun c_4 => ?_)
        · replace hf := itU_f hf c_4
          clear c_4
          replace hf := hf (fun _ => 0)
          refine lv_iload_n hx hb dX0_suitable_125 rfl (lv_at hl 1 rfl) ?_
          refine W.widen (k := 2) (n := 14) (Nat.le_of_ble_eq_true rfl) (Nat.le_of_ble_eq_true rfl) ?_
          exact hret _ _ _ _ _ _ _ hf dX0_suitable_126 hP hD hS hN
        · replace hf := itU_t hf c_4
          clear c_4
          refine lv_aload_n hx hb dX0_suitable_70 rfl (lv_at hl 0 rfl) ?_
          refine g_get hx hb hts S.2.2.2.1 hK hP in_X0 0 rfl rfl 7 (by decide) q291 (fun _ h9 => h9) (v := .ref (b 7)) rfl dX0_suitable_71 ?_
          refine lv_aload_n hx hb dX0_suitable_74 rfl (lv_at hl 0 rfl) ?_
          refine g_get hx hb hts S.2.2.2.1 hK hP in_X0 0 rfl rfl 8 (by decide) q293 (fun _ h9 => h9) (v := .ref (b 13)) rfl dX0_suitable_75 ?_
          refine g_getN hx hb hts S.2.2.2.1 hK hP in_X8 13 rfl rfl 0 (by decide) q810 (fun _ h9 => h9) (v := .int (μ4.1.1 60)) rfl dX0_suitable_78 ?_
          obtain ⟨r_6, h_5, hf⟩ := b1U hf
          refine run_iM (w := XW d z b μ4.1) (tl := μ4.2) (wr := [(b 0, .inr (1, [.ref (b 1), .int (μ4.1.1 1), .int (μ4.1.1 2), .ref (b 2), .ref (b 3), .ref (b 4), va_rf (μ4.1.2.2.2.2 6 0), .ref (b 7), .ref (b 13), .ref (b 16), .int (μ4.1.1 10)])), (b 1, .inl (d 2, 500, .inl (μ4.1.2.2.1 1))), (b 2, .inl (d 5, 2, .inr (.inr (.inr (.inr (fun j => some (z.2.2 j))))))), (b 3, .inl (d 6, 5, .inr (.inr (.inr (.inr (fun j => some (z.2.2 (2 + j)))))))), (b 4, .inr (4, [.int (μ4.1.1 20), .long (μ4.1.2.1 21), .long (μ4.1.2.1 22), .long (μ4.1.2.1 23), .ref (b 5), .ref (b 6), .ref (b 0)])), (b 5, .inr (2, [.long (μ4.1.2.1 30), .long (μ4.1.2.1 31)])), (b 6, .inr (2, [.long (μ4.1.2.1 32), .long (μ4.1.2.1 33)])), (b 13, .inr (8, [.int (μ4.1.1 60), .int (μ4.1.1 61), .int (μ4.1.1 62), .int (μ4.1.1 63), .ref (b 14), .ref (b 15), .int (μ4.1.1 66), .ref (b 17)])), (b 14, .inl (d 0, 100, .inl (μ4.1.2.2.1 64))), (b 15, .inl (d 3, 100, .inl (μ4.1.2.2.1 65))), (b 17, .inr (18, [.int (μ4.1.1 70), .ref (b 18), .int (μ4.1.1 72)])), (b 18, .inl (d 4, 16, .inr (.inr (.inr (.inr (μ4.1.2.2.2.2 18)))))), (b 16, .inr (17, [.ref (b 19), .int (μ4.1.1 81), .int (μ4.1.1 82)])), (b 19, .inl (d 4, 17, .inr (.inr (.inr (.inr (μ4.1.2.2.2.2 19))))))]) (w' := XW d z b μ4.1) (va_runV (As := [.int (μ4.1.1 60)]) (rest := []) S (keI (tX6_bandOf l D d z b K (μ4.1.1 60) μ4.1 r_6 h_5 _) H) (cwV 1 hts (lw_V q890 q891 q892 q103 q893) rfl rfl rfl (by decide +kernel) ⟨(Nat.le_of_ble_eq_true rfl), (Nat.le_of_ble_eq_true rfl)⟩) ⟨kbl Pw.blind, (va_recv hK.1 hP (ci := 6) (q0 := 7) rfl rfl), fun U hU hW => ⟨Pw.cut (w := XW d z b μ4.1) (tl := μ4.2) hK hP hD hZ hS hA [7, 8, 9, 10, 11, 12] rfl rfl hU hW, hU⟩⟩ rfl rfl hl.1 rfl (lv_room (Nat.le_of_ble_eq_true rfl)) dX0_suitable_81 ⟨(Nat.le_of_ble_eq_true rfl), (Nat.le_of_ble_eq_true rfl)⟩) hP hD hS hA [7, 8, 9, 10, 11, 12] [0, 1, 2, 3, 4, 5, 6, 13, 14, 15, 16, 17, 18, 19] [0, 1, 2, 3, 4, 5, 6, 14, 15, 16, 17, 18, 19, 7, 8, 9, 10, 11, 12, 13] rfl rfl rfl rfl (by decide) rfl rfl ?_
          clear hP hD hS
          intro H locs hP hD hS hk
          replace hN := hN.keep hk
          clear hk
          clear h_5
          refine lv_bipush (v := -2) hx hb dX0_suitable_84 (by decide) ?_
          refine lv_icmp_ne (tgt := 93) hx hb dX0_suitable_86 (by decide) (fun c_7 => ?_) (fun c_7 => ?_)
          · replace hf := itU_f hf c_7
            clear c_7
            refine lv_iconst (v := 0) hx hb dX0_suitable_93 (by decide) ?_
            refine lv_istore_n (lv' := [(2, .int (0 : Int32)), (0, .ref (b 0)), (1, .int x4_1)]) hx hb dX0_suitable_94 rfl hl (by decide) rfl (fun ls hl => ?_)
            refine g_newTM (w := XW d z b μ4.1) (tl := μ4.2) hx hb hts S.2.2.2.1 hK hP hD hS hA (ci := 14) in_X15 tyX15 tyX15_ok q1387 q1406 q127 rfl (fs := [.int (0 : Int32), .null, .null, .null, .null, .null, .int (0 : Int32)]) (fun j hj => by rcases (show j = 0 ∨ j = 1 ∨ j = 2 ∨ j = 3 ∨ j = 4 ∨ j = 5 ∨ j = 6 by omega) with rfl | rfl | rfl | rfl | rfl | rfl | rfl <;> rfl) (Nat.le_of_ble_eq_true rfl) (Nat.le_of_ble_eq_true rfl) (w1 := fun q => (XW d z b μ4.1 ++ [(q, .inr (14, [.int (0 : Int32), .null, .null, .null, .null, .null, .int (0 : Int32)]))])) (fun _ => rfl) dX0_suitable_95 ?_
            clear hP hD hS
            intro q_8 H hP hD hS hk hq_q_8
            replace hN := hN.keep hk
            clear hk
            replace hf := askU hf q_8
            refine lv_dup hx hb dX0_suitable_98 rfl ?_
            refine lv_aload_n hx hb dX0_suitable_99 rfl (lv_at hl 1 rfl) ?_
            refine g_get hx hb hts S.2.2.2.1 hK hP in_X0 0 rfl rfl 8 (by decide) q293 (fun _ h9 => h9) (v := .ref (b 13)) rfl dX0_suitable_100 ?_
            refine g_getN hx hb hts S.2.2.2.1 hK hP in_X8 13 rfl rfl 0 (by decide) q810 (fun _ h9 => h9) (v := .int (μ4.1.1 60)) rfl dX0_suitable_103 ?_
            refine lv_iload_n hx hb dX0_suitable_106 rfl (lv_at hl 0 rfl) ?_
            refine lv_if_eq (tgt := 120) hx hb dX0_suitable_107 (by decide) (fun hc => ?_) (fun hc => absurd (by decide) hc)
            clear hc
            replace hf := hf (fun _ => 0)
            refine lv_null hx hb dX0_suitable_120 ?_
            refine run_vSM (w := (XW d z b μ4.1 ++ [(q_8, .inr (14, [.int (0 : Int32), .null, .null, .null, .null, .null, .int (0 : Int32)]))])) (tl := μ4.2) (wr := [(b 0, .inr (1, [.ref (b 1), .int (μ4.1.1 1), .int (μ4.1.1 2), .ref (b 2), .ref (b 3), .ref (b 4), va_rf (μ4.1.2.2.2.2 6 0), .ref (b 7), .ref (b 13), .ref (b 16), .int (μ4.1.1 10)])), (b 1, .inl (d 2, 500, .inl (μ4.1.2.2.1 1))), (b 2, .inl (d 5, 2, .inr (.inr (.inr (.inr (fun j => some (z.2.2 j))))))), (b 3, .inl (d 6, 5, .inr (.inr (.inr (.inr (fun j => some (z.2.2 (2 + j)))))))), (b 4, .inr (4, [.int (μ4.1.1 20), .long (μ4.1.2.1 21), .long (μ4.1.2.1 22), .long (μ4.1.2.1 23), .ref (b 5), .ref (b 6), .ref (b 0)])), (b 5, .inr (2, [.long (μ4.1.2.1 30), .long (μ4.1.2.1 31)])), (b 6, .inr (2, [.long (μ4.1.2.1 32), .long (μ4.1.2.1 33)])), (b 7, .inr (6, [.int (μ4.1.1 40), .int (μ4.1.1 41), .int (μ4.1.1 42), .int (μ4.1.1 43), .int (μ4.1.1 44), .int (μ4.1.1 45), .ref (b 8), .ref (b 9), .ref (b 10), .int (μ4.1.1 49), .ref (b 11), .ref (b 12), .int (μ4.1.1 52)])), (b 8, .inl (d 0, 16, .inl (μ4.1.2.2.1 46))), (b 9, .inl (d 1, 16, .inr (.inl (μ4.1.2.2.2.1 47)))), (b 10, .inl (d 1, 16, .inr (.inl (μ4.1.2.2.2.1 48)))), (b 11, .inl (d 0, 8, .inl (μ4.1.2.2.1 50))), (b 12, .inl (d 0, 8, .inl (μ4.1.2.2.1 51))), (b 13, .inr (8, [.int (μ4.1.1 60), .int (μ4.1.1 61), .int (μ4.1.1 62), .int (μ4.1.1 63), .ref (b 14), .ref (b 15), .int (μ4.1.1 66), .ref (b 17)])), (b 14, .inl (d 0, 100, .inl (μ4.1.2.2.1 64))), (b 15, .inl (d 3, 100, .inl (μ4.1.2.2.1 65))), (b 17, .inr (18, [.int (μ4.1.1 70), .ref (b 18), .int (μ4.1.1 72)])), (b 18, .inl (d 4, 16, .inr (.inr (.inr (.inr (μ4.1.2.2.2.2 18)))))), (b 16, .inr (17, [.ref (b 19), .int (μ4.1.1 81), .int (μ4.1.1 82)])), (b 19, .inl (d 4, 17, .inr (.inr (.inr (.inr (μ4.1.2.2.2.2 19))))))]) (w' := fun u : UU => (XW d z b μ4.1 ++ [(q_8, .inr (14, [.int (μ4.1.1 60), .null, .null, .null, .null, .null, .int (0 : Int32)]))])) (va_runI (As := [.int (μ4.1.1 60), .null]) (rest := [.ref q_8]) S (keV (tX15_initn l D d z q_8 (μ4.1.1 60) _) H) (cwI 2 hts (lw_meth q1432) rfl rfl rfl (hts _ q127) (hts _ q1430) (hts _ q1431) rfl (by decide +kernel) ⟨(Nat.le_of_ble_eq_true rfl), (Nat.le_of_ble_eq_true rfl)⟩) ⟨kbl Pw.blind, fun U hU hW => ⟨Pw.cut (w := (XW d z b μ4.1 ++ [(q_8, .inr (14, [.int (0 : Int32), .null, .null, .null, .null, .null, .int (0 : Int32)]))])) (tl := μ4.2) hK hP hD hZ hS hA [20] rfl rfl hU hW, hU⟩⟩ rfl rfl hl.1 rfl (lv_room (Nat.le_of_ble_eq_true rfl)) dX0_suitable_121 ⟨(Nat.le_of_ble_eq_true rfl), (Nat.le_of_ble_eq_true rfl)⟩) hP hD hS hA [20] [0, 1, 2, 3, 4, 5, 6, 7, 8, 9, 10, 11, 12, 13, 14, 15, 16, 17, 18, 19] [0, 1, 2, 3, 4, 5, 6, 7, 8, 9, 10, 11, 12, 13, 14, 15, 16, 17, 18, 19, 20] rfl rfl rfl rfl (by decide) rfl (fun _ => rfl) ?_
            clear hP hD hS
            intro u_9 _ H locs hP hD hS hk
            replace hN := hN.keep hk
            replace hq_q_8 := hq_q_8.keep hk
            clear hk
            refine vx_athrow hx hb dX0_suitable_124 ?_
            obtain ⟨ζ_10, e_ζ_10⟩ : ∃ x, x = (μ4.1, [(q_8, .inr (14, [.int (μ4.1.1 60), .null, .null, .null, .null, .null, .int (0 : Int32)]))] ++ μ4.2) := ⟨_, rfl⟩
            replace hN := MN.eqt (w2 := ζ_10.2) (w := [(q_8, .inr (14, [.int (μ4.1.1 60), .null, .null, .null, .null, .null, .int (0 : Int32)]))] ++ μ4.2) (MN.cons hq_q_8 hN) (by rw [e_ζ_10])
            replace hf := nm_some hf ζ_10 e_ζ_10
            replace hP := kp_P (w := XW d z b μ4.1) (ks := [(q_8, .inr (14, [.int (μ4.1.1 60), .null, .null, .null, .null, .null, .int (0 : Int32)]))]) (w' := XW d z b ζ_10.1) (t2 := ζ_10.2) hP (by subst e_ζ_10; rfl) (by subst e_ζ_10; rfl)
            replace hD := kp_D (w := XW d z b μ4.1) (ks := [(q_8, .inr (14, [.int (μ4.1.1 60), .null, .null, .null, .null, .null, .int (0 : Int32)]))]) (w' := XW d z b ζ_10.1) (t2 := ζ_10.2) hD (by subst e_ζ_10; rfl) (by subst e_ζ_10; rfl)
            have m_q_8 : (q_8, (.inr (14, [.int (μ4.1.1 60), .null, .null, .null, .null, .null, .int (0 : Int32)]) : va_E)) ∈ ζ_10.2 := by subst e_ζ_10; exact List.mem_append_left _ (List.mem_of_getElem? (i := 0) rfl)
            clear e_ζ_10
            refine vx_widen (k := 2) (n := 14) (Nat.le_of_ble_eq_true rfl) (Nat.le_of_ble_eq_true rfl) ?_
            exact hthr _ _ _ _ _ _ _ _ _ hf hP hD hS hN ⟨_, List.mem_append_right _ m_q_8⟩
          · replace hf := itU_t hf c_7
            clear c_7
            refine lv_iconst (v := 1) hx hb dX0_suitable_89 (by decide) ?_
            refine lv_goto (tgt := 94) hx hb dX0_suitable_90 (by decide) ?_
            refine lv_istore_n (lv' := [(2, .int (1 : Int32)), (0, .ref (b 0)), (1, .int x4_1)]) hx hb dX0_suitable_94 rfl hl (by decide) rfl (fun ls hl => ?_)
            refine g_newTM (w := XW d z b μ4.1) (tl := μ4.2) hx hb hts S.2.2.2.1 hK hP hD hS hA (ci := 14) in_X15 tyX15 tyX15_ok q1387 q1406 q127 rfl (fs := [.int (0 : Int32), .null, .null, .null, .null, .null, .int (0 : Int32)]) (fun j hj => by rcases (show j = 0 ∨ j = 1 ∨ j = 2 ∨ j = 3 ∨ j = 4 ∨ j = 5 ∨ j = 6 by omega) with rfl | rfl | rfl | rfl | rfl | rfl | rfl <;> rfl) (Nat.le_of_ble_eq_true rfl) (Nat.le_of_ble_eq_true rfl) (w1 := fun q => (XW d z b μ4.1 ++ [(q, .inr (14, [.int (0 : Int32), .null, .null, .null, .null, .null, .int (0 : Int32)]))])) (fun _ => rfl) dX0_suitable_95 ?_
            clear hP hD hS
            intro q_11 H hP hD hS hk hq_q_11
            replace hN := hN.keep hk
            clear hk
            replace hf := askU hf q_11
            refine lv_dup hx hb dX0_suitable_98 rfl ?_
            refine lv_aload_n hx hb dX0_suitable_99 rfl (lv_at hl 1 rfl) ?_
            refine g_get hx hb hts S.2.2.2.1 hK hP in_X0 0 rfl rfl 8 (by decide) q293 (fun _ h9 => h9) (v := .ref (b 13)) rfl dX0_suitable_100 ?_
            refine g_getN hx hb hts S.2.2.2.1 hK hP in_X8 13 rfl rfl 0 (by decide) q810 (fun _ h9 => h9) (v := .int (μ4.1.1 60)) rfl dX0_suitable_103 ?_
            refine lv_iload_n hx hb dX0_suitable_106 rfl (lv_at hl 0 rfl) ?_
            refine lv_if_eq (tgt := 120) hx hb dX0_suitable_107 (by decide) (fun hc => absurd hc (by decide)) (fun hc => ?_)
            clear hc
            refine g_newTM (w := (XW d z b μ4.1 ++ [(q_11, .inr (14, [.int (0 : Int32), .null, .null, .null, .null, .null, .int (0 : Int32)]))])) (tl := μ4.2) hx hb hts S.2.2.2.1 hK hP hD hS hA (ci := 15) in_X16 tyX16 tyX16_ok q1414 q1415 q128 rfl (fs := [.int (0 : Int32), .null, .null, .null, .null, .null, .int (0 : Int32)]) (fun j hj => by rcases (show j = 0 ∨ j = 1 ∨ j = 2 ∨ j = 3 ∨ j = 4 ∨ j = 5 ∨ j = 6 by omega) with rfl | rfl | rfl | rfl | rfl | rfl | rfl <;> rfl) (Nat.le_of_ble_eq_true rfl) (Nat.le_of_ble_eq_true rfl) (w1 := fun q => (XW d z b μ4.1 ++ [(q_11, .inr (14, [.int (0 : Int32), .null, .null, .null, .null, .null, .int (0 : Int32)])), (q, .inr (15, [.int (0 : Int32), .null, .null, .null, .null, .null, .int (0 : Int32)]))])) (fun _ => rfl) dX0_suitable_110 ?_
            clear hP hD hS
            intro q_12 H hP hD hS hk hq_q_12
            replace hN := hN.keep hk
            replace hq_q_11 := hq_q_11.keep hk
            clear hk
            replace hf := askU hf q_12
            replace hf := hf (fun _ => 0)
            refine lv_dup hx hb dX0_suitable_113 rfl ?_
            refine run_vSM (w := (XW d z b μ4.1 ++ [(q_11, .inr (14, [.int (0 : Int32), .null, .null, .null, .null, .null, .int (0 : Int32)])), (q_12, .inr (15, [.int (0 : Int32), .null, .null, .null, .null, .null, .int (0 : Int32)]))])) (tl := μ4.2) (wr := [(b 0, .inr (1, [.ref (b 1), .int (μ4.1.1 1), .int (μ4.1.1 2), .ref (b 2), .ref (b 3), .ref (b 4), va_rf (μ4.1.2.2.2.2 6 0), .ref (b 7), .ref (b 13), .ref (b 16), .int (μ4.1.1 10)])), (b 1, .inl (d 2, 500, .inl (μ4.1.2.2.1 1))), (b 2, .inl (d 5, 2, .inr (.inr (.inr (.inr (fun j => some (z.2.2 j))))))), (b 3, .inl (d 6, 5, .inr (.inr (.inr (.inr (fun j => some (z.2.2 (2 + j)))))))), (b 4, .inr (4, [.int (μ4.1.1 20), .long (μ4.1.2.1 21), .long (μ4.1.2.1 22), .long (μ4.1.2.1 23), .ref (b 5), .ref (b 6), .ref (b 0)])), (b 5, .inr (2, [.long (μ4.1.2.1 30), .long (μ4.1.2.1 31)])), (b 6, .inr (2, [.long (μ4.1.2.1 32), .long (μ4.1.2.1 33)])), (b 7, .inr (6, [.int (μ4.1.1 40), .int (μ4.1.1 41), .int (μ4.1.1 42), .int (μ4.1.1 43), .int (μ4.1.1 44), .int (μ4.1.1 45), .ref (b 8), .ref (b 9), .ref (b 10), .int (μ4.1.1 49), .ref (b 11), .ref (b 12), .int (μ4.1.1 52)])), (b 8, .inl (d 0, 16, .inl (μ4.1.2.2.1 46))), (b 9, .inl (d 1, 16, .inr (.inl (μ4.1.2.2.2.1 47)))), (b 10, .inl (d 1, 16, .inr (.inl (μ4.1.2.2.2.1 48)))), (b 11, .inl (d 0, 8, .inl (μ4.1.2.2.1 50))), (b 12, .inl (d 0, 8, .inl (μ4.1.2.2.1 51))), (b 13, .inr (8, [.int (μ4.1.1 60), .int (μ4.1.1 61), .int (μ4.1.1 62), .int (μ4.1.1 63), .ref (b 14), .ref (b 15), .int (μ4.1.1 66), .ref (b 17)])), (b 14, .inl (d 0, 100, .inl (μ4.1.2.2.1 64))), (b 15, .inl (d 3, 100, .inl (μ4.1.2.2.1 65))), (b 17, .inr (18, [.int (μ4.1.1 70), .ref (b 18), .int (μ4.1.1 72)])), (b 18, .inl (d 4, 16, .inr (.inr (.inr (.inr (μ4.1.2.2.2.2 18)))))), (b 16, .inr (17, [.ref (b 19), .int (μ4.1.1 81), .int (μ4.1.1 82)])), (b 19, .inl (d 4, 17, .inr (.inr (.inr (.inr (μ4.1.2.2.2.2 19)))))), (q_11, .inr (14, [.int (0 : Int32), .null, .null, .null, .null, .null, .int (0 : Int32)]))]) (w' := fun u : UU => (XW d z b μ4.1 ++ [(q_11, .inr (14, [.int (0 : Int32), .null, .null, .null, .null, .null, .int (0 : Int32)])), (q_12, .inr (15, [.int (0 : Int32), .null, .null, .null, .null, .null, .int (0 : Int32)]))])) (va_runI (As := []) (rest := [.ref q_12, .int (μ4.1.1 60), .ref q_11, .ref q_11]) S (keV (tX16_initn l D d z q_12 _) H) (cwI 0 hts (lw_meth q1425) rfl rfl rfl (hts _ q128) (hts _ q1423) (hts _ q1424) rfl (by decide +kernel) ⟨(Nat.le_of_ble_eq_true rfl), (Nat.le_of_ble_eq_true rfl)⟩) ⟨kbl Pw.blind, fun U hU hW => ⟨Pw.cut (w := (XW d z b μ4.1 ++ [(q_11, .inr (14, [.int (0 : Int32), .null, .null, .null, .null, .null, .int (0 : Int32)])), (q_12, .inr (15, [.int (0 : Int32), .null, .null, .null, .null, .null, .int (0 : Int32)]))])) (tl := μ4.2) hK hP hD hZ hS hA [21] rfl rfl hU hW, hU⟩⟩ rfl rfl hl.1 rfl (lv_room (Nat.le_of_ble_eq_true rfl)) dX0_suitable_114 ⟨(Nat.le_of_ble_eq_true rfl), (Nat.le_of_ble_eq_true rfl)⟩) hP hD hS hA [21] [0, 1, 2, 3, 4, 5, 6, 7, 8, 9, 10, 11, 12, 13, 14, 15, 16, 17, 18, 19, 20] [0, 1, 2, 3, 4, 5, 6, 7, 8, 9, 10, 11, 12, 13, 14, 15, 16, 17, 18, 19, 20, 21] rfl rfl rfl rfl (by decide) rfl (fun _ => rfl) ?_
            clear hP hD hS
            intro u_13 _ H locs hP hD hS hk
            replace hN := hN.keep hk
            replace hq_q_11 := hq_q_11.keep hk
            replace hq_q_12 := hq_q_12.keep hk
            clear hk
            refine lv_goto (tgt := 121) hx hb dX0_suitable_117 (by decide) ?_
            refine run_vSM (w := (XW d z b μ4.1 ++ [(q_11, .inr (14, [.int (0 : Int32), .null, .null, .null, .null, .null, .int (0 : Int32)])), (q_12, .inr (15, [.int (0 : Int32), .null, .null, .null, .null, .null, .int (0 : Int32)]))])) (tl := μ4.2) (wr := [(b 0, .inr (1, [.ref (b 1), .int (μ4.1.1 1), .int (μ4.1.1 2), .ref (b 2), .ref (b 3), .ref (b 4), va_rf (μ4.1.2.2.2.2 6 0), .ref (b 7), .ref (b 13), .ref (b 16), .int (μ4.1.1 10)])), (b 1, .inl (d 2, 500, .inl (μ4.1.2.2.1 1))), (b 2, .inl (d 5, 2, .inr (.inr (.inr (.inr (fun j => some (z.2.2 j))))))), (b 3, .inl (d 6, 5, .inr (.inr (.inr (.inr (fun j => some (z.2.2 (2 + j)))))))), (b 4, .inr (4, [.int (μ4.1.1 20), .long (μ4.1.2.1 21), .long (μ4.1.2.1 22), .long (μ4.1.2.1 23), .ref (b 5), .ref (b 6), .ref (b 0)])), (b 5, .inr (2, [.long (μ4.1.2.1 30), .long (μ4.1.2.1 31)])), (b 6, .inr (2, [.long (μ4.1.2.1 32), .long (μ4.1.2.1 33)])), (b 7, .inr (6, [.int (μ4.1.1 40), .int (μ4.1.1 41), .int (μ4.1.1 42), .int (μ4.1.1 43), .int (μ4.1.1 44), .int (μ4.1.1 45), .ref (b 8), .ref (b 9), .ref (b 10), .int (μ4.1.1 49), .ref (b 11), .ref (b 12), .int (μ4.1.1 52)])), (b 8, .inl (d 0, 16, .inl (μ4.1.2.2.1 46))), (b 9, .inl (d 1, 16, .inr (.inl (μ4.1.2.2.2.1 47)))), (b 10, .inl (d 1, 16, .inr (.inl (μ4.1.2.2.2.1 48)))), (b 11, .inl (d 0, 8, .inl (μ4.1.2.2.1 50))), (b 12, .inl (d 0, 8, .inl (μ4.1.2.2.1 51))), (b 13, .inr (8, [.int (μ4.1.1 60), .int (μ4.1.1 61), .int (μ4.1.1 62), .int (μ4.1.1 63), .ref (b 14), .ref (b 15), .int (μ4.1.1 66), .ref (b 17)])), (b 14, .inl (d 0, 100, .inl (μ4.1.2.2.1 64))), (b 15, .inl (d 3, 100, .inl (μ4.1.2.2.1 65))), (b 17, .inr (18, [.int (μ4.1.1 70), .ref (b 18), .int (μ4.1.1 72)])), (b 18, .inl (d 4, 16, .inr (.inr (.inr (.inr (μ4.1.2.2.2.2 18)))))), (b 16, .inr (17, [.ref (b 19), .int (μ4.1.1 81), .int (μ4.1.1 82)])), (b 19, .inl (d 4, 17, .inr (.inr (.inr (.inr (μ4.1.2.2.2.2 19)))))), (q_12, .inr (15, [.int (0 : Int32), .null, .null, .null, .null, .null, .int (0 : Int32)]))]) (w' := fun u : UU => (XW d z b μ4.1 ++ [(q_11, .inr (14, [.int (μ4.1.1 60), .ref q_12, .null, .null, .null, .null, .int (0 : Int32)])), (q_12, .inr (15, [.int (0 : Int32), .null, .null, .null, .null, .null, .int (0 : Int32)]))])) (va_runI (As := [.int (μ4.1.1 60), .ref q_12]) (rest := [.ref q_11]) S (keV (tX15_initr l D d z q_11 (μ4.1.1 60) q_12 _) H) (cwI 2 hts (lw_meth q1432) rfl rfl rfl (hts _ q127) (hts _ q1430) (hts _ q1431) rfl (by decide +kernel) ⟨(Nat.le_of_ble_eq_true rfl), (Nat.le_of_ble_eq_true rfl)⟩) ⟨kbl Pw.blind, fun U hU hW => ⟨Pw.cut (w := (XW d z b μ4.1 ++ [(q_11, .inr (14, [.int (0 : Int32), .null, .null, .null, .null, .null, .int (0 : Int32)])), (q_12, .inr (15, [.int (0 : Int32), .null, .null, .null, .null, .null, .int (0 : Int32)]))])) (tl := μ4.2) hK hP hD hZ hS hA [20] rfl rfl hU hW, hU⟩⟩ rfl rfl hl.1 rfl (lv_room (Nat.le_of_ble_eq_true rfl)) dX0_suitable_121 ⟨(Nat.le_of_ble_eq_true rfl), (Nat.le_of_ble_eq_true rfl)⟩) hP hD hS hA [20] [0, 1, 2, 3, 4, 5, 6, 7, 8, 9, 10, 11, 12, 13, 14, 15, 16, 17, 18, 19, 21] [0, 1, 2, 3, 4, 5, 6, 7, 8, 9, 10, 11, 12, 13, 14, 15, 16, 17, 18, 19, 21, 20] rfl rfl rfl rfl (by decide) rfl (fun _ => rfl) ?_
            clear hP hD hS
            intro u_14 _ H locs hP hD hS hk
            replace hN := hN.keep hk
            replace hq_q_11 := hq_q_11.keep hk
            replace hq_q_12 := hq_q_12.keep hk
            clear hk
            refine vx_athrow hx hb dX0_suitable_124 ?_
            obtain ⟨ζ_15, e_ζ_15⟩ : ∃ x, x = (μ4.1, [(q_11, .inr (14, [.int (μ4.1.1 60), .ref q_12, .null, .null, .null, .null, .int (0 : Int32)])), (q_12, .inr (15, [.int (0 : Int32), .null, .null, .null, .null, .null, .int (0 : Int32)]))] ++ μ4.2) := ⟨_, rfl⟩
            replace hN := MN.eqt (w2 := ζ_15.2) (w := [(q_11, .inr (14, [.int (μ4.1.1 60), .ref q_12, .null, .null, .null, .null, .int (0 : Int32)])), (q_12, .inr (15, [.int (0 : Int32), .null, .null, .null, .null, .null, .int (0 : Int32)]))] ++ μ4.2) (MN.cons hq_q_11 (MN.cons hq_q_12 hN)) (by rw [e_ζ_15])
            replace hf := nm_some hf ζ_15 e_ζ_15
            replace hP := kp_P (w := XW d z b μ4.1) (ks := [(q_11, .inr (14, [.int (μ4.1.1 60), .ref q_12, .null, .null, .null, .null, .int (0 : Int32)])), (q_12, .inr (15, [.int (0 : Int32), .null, .null, .null, .null, .null, .int (0 : Int32)]))]) (w' := XW d z b ζ_15.1) (t2 := ζ_15.2) hP (by subst e_ζ_15; rfl) (by subst e_ζ_15; rfl)
            replace hD := kp_D (w := XW d z b μ4.1) (ks := [(q_11, .inr (14, [.int (μ4.1.1 60), .ref q_12, .null, .null, .null, .null, .int (0 : Int32)])), (q_12, .inr (15, [.int (0 : Int32), .null, .null, .null, .null, .null, .int (0 : Int32)]))]) (w' := XW d z b ζ_15.1) (t2 := ζ_15.2) hD (by subst e_ζ_15; rfl) (by subst e_ζ_15; rfl)
            have m_q_11 : (q_11, (.inr (14, [.int (μ4.1.1 60), .ref q_12, .null, .null, .null, .null, .int (0 : Int32)]) : va_E)) ∈ ζ_15.2 := by subst e_ζ_15; exact List.mem_append_left _ (List.mem_of_getElem? (i := 0) rfl)
            have m_q_12 : (q_12, (.inr (15, [.int (0 : Int32), .null, .null, .null, .null, .null, .int (0 : Int32)]) : va_E)) ∈ ζ_15.2 := by subst e_ζ_15; exact List.mem_append_left _ (List.mem_of_getElem? (i := 1) rfl)
            clear e_ζ_15
            refine vx_widen (k := 2) (n := 14) (Nat.le_of_ble_eq_true rfl) (Nat.le_of_ble_eq_true rfl) ?_
            exact hthr _ _ _ _ _ _ _ _ _ hf hP hD hS hN ⟨_, List.mem_append_right _ m_q_11⟩
      · replace hf := itU_f hf c_3
        clear c_3
        refine lv_aload_n hx hb dX0_suitable_18 rfl (lv_at hl 0 rfl) ?_
        refine lv_aload_n hx hb dX0_suitable_19 rfl (lv_at hl 0 rfl) ?_
        refine g_get hx hb hts S.2.2.2.1 hK hP in_X0 0 rfl rfl 8 (by decide) q293 (fun _ h9 => h9) (v := .ref (b 13)) rfl dX0_suitable_20 ?_
        refine g_getN hx hb hts S.2.2.2.1 hK hP in_X8 13 rfl rfl 7 (by decide) q823 (fun _ h9 => h9) (v := .ref (b 17)) rfl dX0_suitable_23 ?_
        refine lv_iload_n hx hb dX0_suitable_26 rfl (lv_at hl 2 rfl) ?_
        obtain ⟨r_17, h_16, hf⟩ := b1U hf
        have hPc := toT_P (isC := [16, 17]) (isR := [0, 1, 2, 3, 4, 5, 6, 7, 8, 9, 10, 11, 12, 13, 14, 15, 18, 19]) (wc := ALP d (b 17) (b 18) (μ4.1.1 70, μ4.1.1 72, μ4.1.2.2.2.2 18)) (wr := [(b 0, .inr (1, [.ref (b 1), .int (μ4.1.1 1), .int (μ4.1.1 2), .ref (b 2), .ref (b 3), .ref (b 4), va_rf (μ4.1.2.2.2.2 6 0), .ref (b 7), .ref (b 13), .ref (b 16), .int (μ4.1.1 10)])), (b 1, .inl (d 2, 500, .inl (μ4.1.2.2.1 1))), (b 2, .inl (d 5, 2, .inr (.inr (.inr (.inr (fun j => some (z.2.2 j))))))), (b 3, .inl (d 6, 5, .inr (.inr (.inr (.inr (fun j => some (z.2.2 (2 + j)))))))), (b 4, .inr (4, [.int (μ4.1.1 20), .long (μ4.1.2.1 21), .long (μ4.1.2.1 22), .long (μ4.1.2.1 23), .ref (b 5), .ref (b 6), .ref (b 0)])), (b 5, .inr (2, [.long (μ4.1.2.1 30), .long (μ4.1.2.1 31)])), (b 6, .inr (2, [.long (μ4.1.2.1 32), .long (μ4.1.2.1 33)])), (b 7, .inr (6, [.int (μ4.1.1 40), .int (μ4.1.1 41), .int (μ4.1.1 42), .int (μ4.1.1 43), .int (μ4.1.1 44), .int (μ4.1.1 45), .ref (b 8), .ref (b 9), .ref (b 10), .int (μ4.1.1 49), .ref (b 11), .ref (b 12), .int (μ4.1.1 52)])), (b 8, .inl (d 0, 16, .inl (μ4.1.2.2.1 46))), (b 9, .inl (d 1, 16, .inr (.inl (μ4.1.2.2.2.1 47)))), (b 10, .inl (d 1, 16, .inr (.inl (μ4.1.2.2.2.1 48)))), (b 11, .inl (d 0, 8, .inl (μ4.1.2.2.1 50))), (b 12, .inl (d 0, 8, .inl (μ4.1.2.2.1 51))), (b 13, .inr (8, [.int (μ4.1.1 60), .int (μ4.1.1 61), .int (μ4.1.1 62), .int (μ4.1.1 63), .ref (b 14), .ref (b 15), .int (μ4.1.1 66), .ref (b 17)])), (b 14, .inl (d 0, 100, .inl (μ4.1.2.2.1 64))), (b 15, .inl (d 3, 100, .inl (μ4.1.2.2.1 65))), (b 16, .inr (17, [.ref (b 19), .int (μ4.1.1 81), .int (μ4.1.1 82)])), (b 19, .inl (d 4, 17, .inr (.inr (.inr (.inr (μ4.1.2.2.2.2 19))))))]) (w := XW d z b μ4.1) (tl := μ4.2) hP rfl rfl
        have hDc := toT_D (isC := [16, 17]) (isR := [0, 1, 2, 3, 4, 5, 6, 7, 8, 9, 10, 11, 12, 13, 14, 15, 18, 19]) (wc := ALP d (b 17) (b 18) (μ4.1.1 70, μ4.1.1 72, μ4.1.2.2.2.2 18)) (wr := [(b 0, .inr (1, [.ref (b 1), .int (μ4.1.1 1), .int (μ4.1.1 2), .ref (b 2), .ref (b 3), .ref (b 4), va_rf (μ4.1.2.2.2.2 6 0), .ref (b 7), .ref (b 13), .ref (b 16), .int (μ4.1.1 10)])), (b 1, .inl (d 2, 500, .inl (μ4.1.2.2.1 1))), (b 2, .inl (d 5, 2, .inr (.inr (.inr (.inr (fun j => some (z.2.2 j))))))), (b 3, .inl (d 6, 5, .inr (.inr (.inr (.inr (fun j => some (z.2.2 (2 + j)))))))), (b 4, .inr (4, [.int (μ4.1.1 20), .long (μ4.1.2.1 21), .long (μ4.1.2.1 22), .long (μ4.1.2.1 23), .ref (b 5), .ref (b 6), .ref (b 0)])), (b 5, .inr (2, [.long (μ4.1.2.1 30), .long (μ4.1.2.1 31)])), (b 6, .inr (2, [.long (μ4.1.2.1 32), .long (μ4.1.2.1 33)])), (b 7, .inr (6, [.int (μ4.1.1 40), .int (μ4.1.1 41), .int (μ4.1.1 42), .int (μ4.1.1 43), .int (μ4.1.1 44), .int (μ4.1.1 45), .ref (b 8), .ref (b 9), .ref (b 10), .int (μ4.1.1 49), .ref (b 11), .ref (b 12), .int (μ4.1.1 52)])), (b 8, .inl (d 0, 16, .inl (μ4.1.2.2.1 46))), (b 9, .inl (d 1, 16, .inr (.inl (μ4.1.2.2.2.1 47)))), (b 10, .inl (d 1, 16, .inr (.inl (μ4.1.2.2.2.1 48)))), (b 11, .inl (d 0, 8, .inl (μ4.1.2.2.1 50))), (b 12, .inl (d 0, 8, .inl (μ4.1.2.2.1 51))), (b 13, .inr (8, [.int (μ4.1.1 60), .int (μ4.1.1 61), .int (μ4.1.1 62), .int (μ4.1.1 63), .ref (b 14), .ref (b 15), .int (μ4.1.1 66), .ref (b 17)])), (b 14, .inl (d 0, 100, .inl (μ4.1.2.2.1 64))), (b 15, .inl (d 3, 100, .inl (μ4.1.2.2.1 65))), (b 16, .inr (17, [.ref (b 19), .int (μ4.1.1 81), .int (μ4.1.1 82)])), (b 19, .inl (d 4, 17, .inr (.inr (.inr (.inr (μ4.1.2.2.2.2 19))))))]) (w := XW d z b μ4.1) (tl := μ4.2) hD rfl rfl rfl
        refine runW_rSM (va_runV (As := [.int x4_2]) (rest := [.ref (b 0)]) S (keR (tJ14_get l D d z (b 17) (b 18) ([(b 0, .inr (1, [.ref (b 1), .int (μ4.1.1 1), .int (μ4.1.1 2), .ref (b 2), .ref (b 3), .ref (b 4), va_rf (μ4.1.2.2.2.2 6 0), .ref (b 7), .ref (b 13), .ref (b 16), .int (μ4.1.1 10)])), (b 1, .inl (d 2, 500, .inl (μ4.1.2.2.1 1))), (b 2, .inl (d 5, 2, .inr (.inr (.inr (.inr (fun j => some (z.2.2 j))))))), (b 3, .inl (d 6, 5, .inr (.inr (.inr (.inr (fun j => some (z.2.2 (2 + j)))))))), (b 4, .inr (4, [.int (μ4.1.1 20), .long (μ4.1.2.1 21), .long (μ4.1.2.1 22), .long (μ4.1.2.1 23), .ref (b 5), .ref (b 6), .ref (b 0)])), (b 5, .inr (2, [.long (μ4.1.2.1 30), .long (μ4.1.2.1 31)])), (b 6, .inr (2, [.long (μ4.1.2.1 32), .long (μ4.1.2.1 33)])), (b 7, .inr (6, [.int (μ4.1.1 40), .int (μ4.1.1 41), .int (μ4.1.1 42), .int (μ4.1.1 43), .int (μ4.1.1 44), .int (μ4.1.1 45), .ref (b 8), .ref (b 9), .ref (b 10), .int (μ4.1.1 49), .ref (b 11), .ref (b 12), .int (μ4.1.1 52)])), (b 8, .inl (d 0, 16, .inl (μ4.1.2.2.1 46))), (b 9, .inl (d 1, 16, .inr (.inl (μ4.1.2.2.2.1 47)))), (b 10, .inl (d 1, 16, .inr (.inl (μ4.1.2.2.2.1 48)))), (b 11, .inl (d 0, 8, .inl (μ4.1.2.2.1 50))), (b 12, .inl (d 0, 8, .inl (μ4.1.2.2.1 51))), (b 13, .inr (8, [.int (μ4.1.1 60), .int (μ4.1.1 61), .int (μ4.1.1 62), .int (μ4.1.1 63), .ref (b 14), .ref (b 15), .int (μ4.1.1 66), .ref (b 17)])), (b 14, .inl (d 0, 100, .inl (μ4.1.2.2.1 64))), (b 15, .inl (d 3, 100, .inl (μ4.1.2.2.1 65))), (b 16, .inr (17, [.ref (b 19), .int (μ4.1.1 81), .int (μ4.1.1 82)])), (b 19, .inl (d 4, 17, .inr (.inr (.inr (.inr (μ4.1.2.2.2.2 19))))))] ++ μ4.2) K x4_2 (μ4.1.1 70, μ4.1.1 72, μ4.1.2.2.2.2 18) r_17 h_16 _) H) (cwV 1 hts (lw_V q1393 q942 q943 q118 q944) rfl rfl rfl (by decide +kernel) ⟨(Nat.le_of_ble_eq_true rfl), (Nat.le_of_ble_eq_true rfl)⟩) ⟨kbl Pw.blind, (va_recv hK.1 hP (ci := 18) (q0 := 16) rfl rfl), fun U hU hW => ⟨Pw.at hK hPc hDc hZ hS hA hU hW, hU⟩⟩ rfl rfl hl.1 rfl (lv_room (Nat.le_of_ble_eq_true rfl)) dX0_suitable_27 ⟨(Nat.le_of_ble_eq_true rfl), (Nat.le_of_ble_eq_true rfl)⟩) hPc hDc hS hA ?_
        clear hP hD hS hPc hDc
        intro _ _ H locs hP hD hS hk
        replace hN := hN.keep hk
        clear hk
        replace hP := ofT_P (perm := [2, 3, 4, 5, 6, 7, 8, 9, 10, 11, 12, 13, 14, 15, 16, 17, 0, 1, 18, 19]) (w' := XW d z b μ4.1) hP rfl
        replace hD := ofT_D (perm := [2, 3, 4, 5, 6, 7, 8, 9, 10, 11, 12, 13, 14, 15, 16, 17, 0, 1, 18, 19]) (w' := XW d z b μ4.1) hD rfl rfl
        clear h_16
        obtain ⟨t_18, m_19, hf⟩ := b1U hf
        replace m_19 := entOf_mem m_19
        refine g_castM hx hb hts S.2.2.2.1 hK hP (ci := 16) rfl (List.mem_append_right _ m_19) q1394 dX0_suitable_30 ?_
        obtain ⟨r_21, ζ_22, h_20, hf⟩ := b2U hf
        refine runW_iM (va_runV (As := [.ref r_17]) (rest := []) S (keI (tX0_isSuitable l D d z b K r_17 t_18 μ4 r_21 ζ_22 h_20 m_19 _) H) (cwV 1 hts (lw_V q1395 q1397 qs42 q94 q1398) rfl rfl rfl (by decide +kernel) ⟨(Nat.le_of_ble_eq_true rfl), (Nat.le_of_ble_eq_true rfl)⟩) ⟨kbl Pw.blind, (va_recv hK.1 hP (ci := 1) (q0 := 0) rfl rfl), fun U hU hW => ⟨Pw.at hK hP hD hZ hS hA hU hW, hU⟩⟩ rfl rfl hl.1 rfl (lv_room (Nat.le_of_ble_eq_true rfl)) dX0_suitable_33 ⟨(Nat.le_of_ble_eq_true rfl), (Nat.le_of_ble_eq_true rfl)⟩) hP hD hS hA ?_
        clear hP hD hS
        intro H locs hP hD hS hk
        replace hN := hN.keep hk
        clear hk
        replace hN := hN.eqt (w2 := ζ_22.2) (by rw [same_isSuitable h_20])
        clear h_20
        refine lv_if_eq (tgt := 59) hx hb dX0_suitable_36 (by decide) (fun c_23 => ?_) (fun c_23 => ?_)
        · replace hf := itU_f hf (bi_e0 c_23)
          clear c_23
          refine lv_iinc (v := x4_2 + (1 : Int32)) (lv' := [(2, .int (x4_2 + (1 : Int32))), (0, .ref (b 0)), (1, .int x4_1)]) hx hb dX0_suitable_59 hl (k := 2) rfl rfl (by decide) rfl (fun ls hl => ?_)
          refine lv_goto (tgt := 4) hx hb dX0_suitable_62 (by decide) ?_
          exact ih x4_1 (x4_2 + (1 : Int32)) ζ_22 _ _ _ _ hf hP hD hS hN (lv_sub hl [1, 2, 0] rfl)
        · replace hf := itU_t hf (bi_n0 c_23)
          clear c_23
          refine lv_iload_n hx hb dX0_suitable_39 rfl (lv_at hl 1 rfl) ?_
          refine lv_iconst (v := -1) hx hb dX0_suitable_40 (by decide) ?_
          refine lv_icmp_eq (tgt := 57) hx hb dX0_suitable_41 (by decide) (fun c_24 => ?_) (fun c_24 => ?_)
          · replace hf := itU_t hf c_24
            clear c_24
            refine lv_iload_n hx hb dX0_suitable_57 rfl (lv_at hl 2 rfl) ?_
            refine lv_istore_n (lv' := [(1, .int x4_2), (0, .ref (b 0)), (2, .int x4_2)]) hx hb dX0_suitable_58 rfl hl (by decide) rfl (fun ls hl => ?_)
            refine lv_iinc (v := x4_2 + (1 : Int32)) (lv' := [(2, .int (x4_2 + (1 : Int32))), (1, .int x4_2), (0, .ref (b 0))]) hx hb dX0_suitable_59 hl (k := 2) rfl rfl (by decide) rfl (fun ls hl => ?_)
            refine lv_goto (tgt := 4) hx hb dX0_suitable_62 (by decide) ?_
            exact ih x4_2 (x4_2 + (1 : Int32)) ζ_22 _ _ _ _ hf hP hD hS hN (lv_sub hl [2, 1, 0] rfl)
          · replace hf := itU_f hf c_24
            clear c_24
            refine lv_aload_n hx hb dX0_suitable_44 rfl (lv_at hl 0 rfl) ?_
            refine lv_iload_n hx hb dX0_suitable_45 rfl (lv_at hl 2 rfl) ?_
            obtain ⟨r_26, ζ_27, h_25, hf⟩ := b2U hf
            refine runW_iM (va_runV (As := [.int x4_2]) (rest := []) S (keI (tX0_distanceTo l D d z b K x4_2 ζ_22 r_26 ζ_27 h_25 _) H) (cwV 1 hts (lw_V q1399 q1401 qs43 q94 q1402) rfl rfl rfl (by decide +kernel) ⟨(Nat.le_of_ble_eq_true rfl), (Nat.le_of_ble_eq_true rfl)⟩) ⟨kbl Pw.blind, (va_recv hK.1 hP (ci := 1) (q0 := 0) rfl rfl), fun U hU hW => ⟨Pw.at hK hP hD hZ hS hA hU hW, hU⟩⟩ rfl rfl hl.1 rfl (lv_room (Nat.le_of_ble_eq_true rfl)) dX0_suitable_46 ⟨(Nat.le_of_ble_eq_true rfl), (Nat.le_of_ble_eq_true rfl)⟩) hP hD hS hA ?_
            clear hP hD hS
            intro H locs hP hD hS hk
            replace hN := hN.keep hk
            clear hk
            replace hN := hN.eqt (w2 := ζ_27.2) (by rw [same_distanceTo h_25])
            clear h_25
            refine lv_aload_n hx hb dX0_suitable_49 rfl (lv_at hl 0 rfl) ?_
            refine lv_iload_n hx hb dX0_suitable_50 rfl (lv_at hl 1 rfl) ?_
            obtain ⟨r_29, ζ_30, h_28, hf⟩ := b2U hf
            refine runW_iM (va_runV (As := [.int x4_1]) (rest := [.int r_26]) S (keI (tX0_distanceTo l D d z b K x4_1 ζ_27 r_29 ζ_30 h_28 _) H) (cwV 1 hts (lw_V q1399 q1401 qs43 q94 q1402) rfl rfl rfl (by decide +kernel) ⟨(Nat.le_of_ble_eq_true rfl), (Nat.le_of_ble_eq_true rfl)⟩) ⟨kbl Pw.blind, (va_recv hK.1 hP (ci := 1) (q0 := 0) rfl rfl), fun U hU hW => ⟨Pw.at hK hP hD hZ hS hA hU hW, hU⟩⟩ rfl rfl hl.1 rfl (lv_room (Nat.le_of_ble_eq_true rfl)) dX0_suitable_51 ⟨(Nat.le_of_ble_eq_true rfl), (Nat.le_of_ble_eq_true rfl)⟩) hP hD hS hA ?_
            clear hP hD hS
            intro H locs hP hD hS hk
            replace hN := hN.keep hk
            clear hk
            replace hN := hN.eqt (w2 := ζ_30.2) (by rw [same_distanceTo h_28])
            clear h_28
            refine lv_icmp_ge (tgt := 59) hx hb dX0_suitable_54 (by decide) (fun c_31 => ?_) (fun c_31 => ?_)
            · replace hf := itU_t hf c_31
              clear c_31
              refine lv_iinc (v := x4_2 + (1 : Int32)) (lv' := [(2, .int (x4_2 + (1 : Int32))), (0, .ref (b 0)), (1, .int x4_1)]) hx hb dX0_suitable_59 hl (k := 2) rfl rfl (by decide) rfl (fun ls hl => ?_)
              refine lv_goto (tgt := 4) hx hb dX0_suitable_62 (by decide) ?_
              exact ih x4_1 (x4_2 + (1 : Int32)) ζ_30 _ _ _ _ hf hP hD hS hN (lv_sub hl [1, 2, 0] rfl)
            · replace hf := itU_f hf c_31
              clear c_31
              refine lv_iload_n hx hb dX0_suitable_57 rfl (lv_at hl 2 rfl) ?_
              refine lv_istore_n (lv' := [(1, .int x4_2), (0, .ref (b 0)), (2, .int x4_2)]) hx hb dX0_suitable_58 rfl hl (by decide) rfl (fun ls hl => ?_)
              refine lv_iinc (v := x4_2 + (1 : Int32)) (lv' := [(2, .int (x4_2 + (1 : Int32))), (1, .int x4_2), (0, .ref (b 0))]) hx hb dX0_suitable_59 hl (k := 2) rfl rfl (by decide) rfl (fun ls hl => ?_)
              refine lv_goto (tgt := 4) hx hb dX0_suitable_62 (by decide) ?_
              exact ih x4_2 (x4_2 + (1 : Int32)) ζ_30 _ _ _ _ hf hP hD hS hN (lv_sub hl [2, 1, 0] rfl)
  unfold fX0_suitable at hf
  have hN : MN μ.2 μ.2 s.heap := MN.rf
  refine lv_iconst (v := -1) hx hb dX0_suitable_0 (by decide) ?_
  refine lv_istore_n (lv' := [(1, .int (-1 : Int32)), (0, .ref (b 0))]) hx hb dX0_suitable_1 rfl hl (by decide) rfl (fun ls hl => ?_)
  refine lv_iconst (v := 0) hx hb dX0_suitable_2 (by decide) ?_
  refine lv_istore_n (lv' := [(2, .int (0 : Int32)), (1, .int (-1 : Int32)), (0, .ref (b 0))]) hx hb dX0_suitable_3 rfl hl (by decide) rfl (fun ls hl => ?_)
  exact L4 K (-1 : Int32) (0 : Int32) μ _ _ _ _ hf hP hD hS hN (lv_sub hl [2, 1, 0] rfl)
noncomputable def fX0_tuneFromMemory (K : Nat) (d : Nat → ClassId) (u : UU) (μ : XT) : Option (Int32 × XT) :=
  b2 (fX0_isReady K μ.1) fun r_2 ζ_3 =>
  nm ((xmrg μ.1 ζ_3, μ.2)) fun ζ_4 =>
  if r_2 = true then
    b3u u (fun u => fX0_suitable K d u ζ_4) (fun c_10 q_11 ζ_12 u =>
        if c_10 = 14 then
          ask u fun q_14 u =>
          nm ((xP ζ_12.1 6 (fun _ => some q_14), ζ_12.2)) fun ζ_16 =>
          nm ((ζ_16.1, [(q_14, .inr (11, [.int (0 : Int32), .ref q_11, .null, .null, .null, .null, .int (0 : Int32)]))] ++ ζ_16.2)) fun ζ_17 =>
          some ((-2 : Int32), ζ_17)
        else
          none
      ) fun r_18 ζ_19 u =>
      b1 (fJ14_get K r_18 (ζ_19.1.1 70, ζ_19.1.1 72, ζ_19.1.2.2.2.2 18)) fun r_22 =>
      b1 (entOf ζ_19.2 r_22) fun t_23 =>
      b2 (fX0_swrBy K t_23.2.1 ζ_19.1) fun r_26 ζ_27 =>
      nm ((xmrg ζ_19.1 ζ_27, ζ_19.2)) fun ζ_28 =>
      b2 (fX0_swrBy K (0 : Int32) ζ_28.1) fun r_30 ζ_31 =>
      nm ((xmrg ζ_28.1 ζ_31, ζ_28.2)) fun ζ_32 =>
      if r_30 < r_26 then
        b2u u (fun u => fX0_searchFrom K d (0 : Int32) u ζ_32) fun r_36 ζ_37 u =>
        some (r_36, ζ_37)
      else
        b2u u (fun u => fX0_searchFrom K d t_23.2.1 u ζ_32) fun r_42 ζ_43 u =>
        some (r_42, ζ_43)
  else
    some ((-1 : Int32), ζ_4)
set_option maxHeartbeats 4000000 in
set_option maxRecDepth 100000 in
theorem tX0_tuneFromMemory (l : Launch) (D : va_G) (d : Nat → ClassId) (z : ZT) (b : Nat → Nat) (K : Nat) (μ : XT) (y : UU → (Int32 × XT)) (hf : ∀ u, fX0_tuneFromMemory K d u μ = some (y u)) : CISM l yX0_tuneFromMemory (wsW_ yX0_tuneFromMemory cX0_tuneFromMemory 2 (Option.some Jvm.ClassFile.FieldType.int) [((9 : Nat), (52 : Nat), (53 : Nat), (357 : Nat))]) (rmc 11 41013 123276 246) D d z [.ref (b 0)] (XW d z b μ.1 ++ μ.2) (fun u : UU => (y u).1) (fun u : UU => XW d z b (y u).2.1 ++ (y u).2.2) (fun _ => True) μ.2 (fun u => (y u).2.2) := by
  refine CISM.ofH (own := RX0) rfl (by decide) (Nat.le_of_ble_eq_true rfl) (fun _ => rfl) ?_
  intro p e s m args below meth c A Q ls S hin htab hK hP hD hZ hS hA hl hret0
  have hret : ∀ (U0 : UU) (x : Int32) (μx : XT) (H : Heap) (locs : List Loc) (pc : Nat) (ls' : Array Slot), some (x, μx) = some (y U0) → decode cX0_tuneFromMemory pc = .ok (.ireturn, 1) → va_P D CL (XW d z b μx.1 ++ μx.2) H → va_D A (XW d z b μx.1 ++ μx.2) → va_S A s.heap H locs → MN μ.2 μx.2 H → W p l e (rmc 11 41013 123276 246) s m args below meth c H locs 41013 123276 Q (F0 m pc ls' [.int x]) := by
    intro U0 x μx H locs pc ls' h9 hdg hP hD hS hN
    have h8 := hret0 U0 trivial H locs pc ls' hdg
    rw [← Option.some.inj h9] at h8
    exact h8 hP hD hS hN
  have hx := S.1
  have hb := S.2.1
  have hts := S.2.2.2.2
  have hl : lv_has ls 2 [(0, .ref (b 0))] := hl
  unfold fX0_tuneFromMemory at hf
  have hN : MN μ.2 μ.2 s.heap := MN.rf
  refine lv_aload_n hx hb dX0_tuneFromMemory_0 rfl (lv_at hl 0 rfl) ?_
  obtain ⟨r_2, ζ_3, h_1, hf⟩ := b2U hf
  obtain ⟨ζ_4, e_ζ_4⟩ : ∃ x, x = (xmrg μ.1 ζ_3, μ.2) := ⟨_, rfl⟩
  replace hN := hN.eqt (w2 := ζ_4.2) (by rw [e_ζ_4])
  refine run_iM (w := XW d z b μ.1) (tl := μ.2) (wr := [(b 17, .inr (18, [.int (μ.1.1 70), .ref (b 18), .int (μ.1.1 72)])), (b 18, .inl (d 4, 16, .inr (.inr (.inr (.inr (μ.1.2.2.2.2 18)))))), (b 16, .inr (17, [.ref (b 19), .int (μ.1.1 81), .int (μ.1.1 82)])), (b 19, .inl (d 4, 17, .inr (.inr (.inr (.inr (μ.1.2.2.2.2 19))))))]) (w' := XW d z b ζ_4.1) (va_runV (As := []) (rest := []) S (keI (tX0_isReady l D d z b (μ.1.2.2.2.2 6 0) K μ.1 r_2 ζ_3 h_1 _) s.heap) (cwV 0 hts (lw_V q857 q859 qs18 q94 q860) rfl rfl rfl (by decide +kernel) ⟨(Nat.le_of_ble_eq_true rfl), (Nat.le_of_ble_eq_true rfl)⟩) ⟨kbl Pw.blind, (va_recv hK.1 hP (ci := 1) (q0 := 0) rfl rfl), fun U hU hW => ⟨Pw.cut (w := XW d z b μ.1) (tl := μ.2) hK hP hD hZ hS hA [0, 1, 2, 3, 4, 5, 6, 7, 8, 9, 10, 11, 12, 13, 14, 15] rfl rfl hU hW, hU⟩⟩ rfl rfl hl.1 rfl (lv_room (Nat.le_of_ble_eq_true rfl)) dX0_tuneFromMemory_1 ⟨(Nat.le_of_ble_eq_true rfl), (Nat.le_of_ble_eq_true rfl)⟩) hP hD hS hA [0, 1, 2, 3, 4, 5, 6, 7, 8, 9, 10, 11, 12, 13, 14, 15] [16, 17, 18, 19] [4, 5, 6, 7, 8, 9, 10, 11, 12, 13, 14, 15, 16, 17, 18, 19, 0, 1, 2, 3] rfl rfl rfl rfl (by decide) rfl (by subst e_ζ_4; rfl) ?_
  clear hP hD hS
  intro H locs hP hD hS hk
  replace hN := hN.keep hk
  clear hk
  rw [show μ.2 = ζ_4.2 from by subst e_ζ_4; rfl] at hP hD
  clear h_1
  replace hf := nmU hf ζ_4 e_ζ_4
  clear e_ζ_4
  refine lv_if_ne (tgt := 9) hx hb dX0_tuneFromMemory_4 (by decide) (fun c_5 => ?_) (fun c_5 => ?_)
  · replace hf := itU_t hf (bi_n0 c_5)
    clear c_5
    refine lv_aload_n hx hb dX0_tuneFromMemory_9 rfl (lv_at hl 0 rfl) ?_
    refine g_get hx hb hts S.2.2.2.1 hK hP in_X0 0 rfl rfl 8 (by decide) q293 (fun _ h9 => h9) (v := .ref (b 13)) rfl dX0_tuneFromMemory_10 ?_
    refine g_getN hx hb hts S.2.2.2.1 hK hP in_X8 13 rfl rfl 7 (by decide) q823 (fun _ h9 => h9) (v := .ref (b 17)) rfl dX0_tuneFromMemory_13 ?_
    refine lv_aload_n hx hb dX0_tuneFromMemory_16 rfl (lv_at hl 0 rfl) ?_
    obtain ⟨y_6, h_7, ft_8, fr_9⟩ := b3u_some hf
    refine runT_iM (vx_runV (As := []) (rest := [.ref (b 17)]) S (kxI2 (tX0_suitable l D d z b K ζ_4 y_6 h_7 _) H) (cwV 0 hts (lw_V q1388 q1390 qs41 q94 q1391) rfl rfl rfl (by decide +kernel) ⟨(Nat.le_of_ble_eq_true rfl), (Nat.le_of_ble_eq_true rfl)⟩) ⟨kbl Pw.blind, (va_recv hK.1 hP (ci := 1) (q0 := 0) rfl rfl), fun U hU hW => ⟨Pw.at hK hP hD hZ hS hA hU hW, hU⟩⟩ rfl rfl hl.1 rfl (lv_room (Nat.le_of_ble_eq_true rfl)) dX0_tuneFromMemory_17 ⟨(Nat.le_of_ble_eq_true rfl), (Nat.le_of_ble_eq_true rfl)⟩) hP hD hS hA ?_ ?_
    · rintro ⟨u_13, c_10, q_11, ζ_12⟩ hψ H locs hP hD hS hk hm
      dsimp only at hP hD hk hm ⊢
      obtain ⟨hn, hk⟩ := hk
      replace hN := hN.keep hk
      replace hN := (hN.tr hn).eqt (w2 := ζ_12.2) rfl
      clear hn hk
      replace hf := ft_8 u_13 c_10 q_11 ζ_12 hψ
      clear ft_8 fr_9 h_7 hψ
      by_cases cc : c_10 = 14
      · replace hf := itU_t hf cc
        subst cc
        obtain ⟨ce, g1, g2, g3⟩ := ex_cell hK hP hm
        refine vx_catch (own := RX0) (E := RX15) (name := RX15) S.2.2.2.1 ((tableOf [((9 : Nat), (52 : Nat), (53 : Nat), (357 : Nat))]).take 0) ((tableOf [((9 : Nat), (52 : Nat), (53 : Nat), (357 : Nat))])[0]) ((tableOf [((9 : Nat), (52 : Nat), (53 : Nat), (357 : Nat))]).drop 1) (by rw [htab]; rfl) (fun z9 hz9 => by
      cases hz9) (by decide) (by decide) (hts _ q1387) (va_Nw.use rfl (hK.2 _ q1407 rfl)) g1 g2 g3 ?_
        clear g1 g2 g3 ce
        refine lv_astore_n (lv' := [(1, .ref q_11), (0, .ref (b 0))]) hx hb dX0_tuneFromMemory_53 rfl hl (by decide) rfl (fun ls hl => ?_)
        refine lv_aload_n hx hb dX0_tuneFromMemory_54 rfl (lv_at hl 1 rfl) ?_
        refine g_newTM (w := XW d z b ζ_12.1) (tl := ζ_12.2) hx hb hts S.2.2.2.1 hK hP hD hS hA (ci := 11) in_X12 tyX12 tyX12_ok q1245 q1325 q124 rfl (fs := [.int (0 : Int32), .null, .null, .null, .null, .null, .int (0 : Int32)]) (fun j hj => by rcases (show j = 0 ∨ j = 1 ∨ j = 2 ∨ j = 3 ∨ j = 4 ∨ j = 5 ∨ j = 6 by omega) with rfl | rfl | rfl | rfl | rfl | rfl | rfl <;> rfl) (Nat.le_of_ble_eq_true rfl) (Nat.le_of_ble_eq_true rfl) (w1 := fun q => (XW d z b ζ_12.1 ++ [(q, .inr (11, [.int (0 : Int32), .null, .null, .null, .null, .null, .int (0 : Int32)]))])) (fun _ => rfl) dX0_tuneFromMemory_55 ?_
        clear hP hD hS
        intro q_14 H hP hD hS hk hq_q_14
        replace hN := hN.keep hk
        clear hk
        replace hf := askU hf q_14
        replace hf := hf (fun _ => 0)
        refine lv_dup hx hb dX0_tuneFromMemory_58 rfl ?_
        refine lv_iconst (v := 0) hx hb dX0_tuneFromMemory_59 (by decide) ?_
        refine lv_aload_n hx hb dX0_tuneFromMemory_60 rfl (lv_at hl 0 rfl) ?_
        refine run_vSM (w := (XW d z b ζ_12.1 ++ [(q_14, .inr (11, [.int (0 : Int32), .null, .null, .null, .null, .null, .int (0 : Int32)]))])) (tl := ζ_12.2) (wr := [(b 0, .inr (1, [.ref (b 1), .int (ζ_12.1.1 1), .int (ζ_12.1.1 2), .ref (b 2), .ref (b 3), .ref (b 4), va_rf (ζ_12.1.2.2.2.2 6 0), .ref (b 7), .ref (b 13), .ref (b 16), .int (ζ_12.1.1 10)])), (b 1, .inl (d 2, 500, .inl (ζ_12.1.2.2.1 1))), (b 2, .inl (d 5, 2, .inr (.inr (.inr (.inr (fun j => some (z.2.2 j))))))), (b 3, .inl (d 6, 5, .inr (.inr (.inr (.inr (fun j => some (z.2.2 (2 + j)))))))), (b 4, .inr (4, [.int (ζ_12.1.1 20), .long (ζ_12.1.2.1 21), .long (ζ_12.1.2.1 22), .long (ζ_12.1.2.1 23), .ref (b 5), .ref (b 6), .ref (b 0)])), (b 5, .inr (2, [.long (ζ_12.1.2.1 30), .long (ζ_12.1.2.1 31)])), (b 6, .inr (2, [.long (ζ_12.1.2.1 32), .long (ζ_12.1.2.1 33)])), (b 7, .inr (6, [.int (ζ_12.1.1 40), .int (ζ_12.1.1 41), .int (ζ_12.1.1 42), .int (ζ_12.1.1 43), .int (ζ_12.1.1 44), .int (ζ_12.1.1 45), .ref (b 8), .ref (b 9), .ref (b 10), .int (ζ_12.1.1 49), .ref (b 11), .ref (b 12), .int (ζ_12.1.1 52)])), (b 8, .inl (d 0, 16, .inl (ζ_12.1.2.2.1 46))), (b 9, .inl (d 1, 16, .inr (.inl (ζ_12.1.2.2.2.1 47)))), (b 10, .inl (d 1, 16, .inr (.inl (ζ_12.1.2.2.2.1 48)))), (b 11, .inl (d 0, 8, .inl (ζ_12.1.2.2.1 50))), (b 12, .inl (d 0, 8, .inl (ζ_12.1.2.2.1 51))), (b 13, .inr (8, [.int (ζ_12.1.1 60), .int (ζ_12.1.1 61), .int (ζ_12.1.1 62), .int (ζ_12.1.1 63), .ref (b 14), .ref (b 15), .int (ζ_12.1.1 66), .ref (b 17)])), (b 14, .inl (d 0, 100, .inl (ζ_12.1.2.2.1 64))), (b 15, .inl (d 3, 100, .inl (ζ_12.1.2.2.1 65))), (b 17, .inr (18, [.int (ζ_12.1.1 70), .ref (b 18), .int (ζ_12.1.1 72)])), (b 18, .inl (d 4, 16, .inr (.inr (.inr (.inr (ζ_12.1.2.2.2.2 18)))))), (b 16, .inr (17, [.ref (b 19), .int (ζ_12.1.1 81), .int (ζ_12.1.1 82)])), (b 19, .inl (d 4, 17, .inr (.inr (.inr (.inr (ζ_12.1.2.2.2.2 19))))))]) (w' := fun u : UU => (XW d z b ζ_12.1 ++ [(q_14, .inr (11, [.int (0 : Int32), .ref q_11, .null, .null, .null, .null, .int (0 : Int32)]))])) (va_runI (As := [.int (0 : Int32), .ref q_11]) (rest := [.ref q_14, .ref (b 0)]) S (keV (tX12_initr l D d z q_14 (0 : Int32) q_11 _) H) (cwI 2 hts (lw_meth q1335) rfl rfl rfl (hts _ q124) (hts _ q1437) (hts _ q1334) rfl (by decide +kernel) ⟨(Nat.le_of_ble_eq_true rfl), (Nat.le_of_ble_eq_true rfl)⟩) ⟨kbl Pw.blind, fun U hU hW => ⟨Pw.cut (w := (XW d z b ζ_12.1 ++ [(q_14, .inr (11, [.int (0 : Int32), .null, .null, .null, .null, .null, .int (0 : Int32)]))])) (tl := ζ_12.2) hK hP hD hZ hS hA [20] rfl rfl hU hW, hU⟩⟩ rfl rfl hl.1 rfl (lv_room (Nat.le_of_ble_eq_true rfl)) dX0_tuneFromMemory_61 ⟨(Nat.le_of_ble_eq_true rfl), (Nat.le_of_ble_eq_true rfl)⟩) hP hD hS hA [20] [0, 1, 2, 3, 4, 5, 6, 7, 8, 9, 10, 11, 12, 13, 14, 15, 16, 17, 18, 19] [0, 1, 2, 3, 4, 5, 6, 7, 8, 9, 10, 11, 12, 13, 14, 15, 16, 17, 18, 19, 20] rfl rfl rfl rfl (by decide) rfl (fun _ => rfl) ?_
        clear hP hD hS
        intro u_15 _ H locs hP hD hS hk
        replace hN := hN.keep hk
        replace hq_q_14 := hq_q_14.keep hk
        clear hk
        obtain ⟨ζ_16, e_ζ_16⟩ : ∃ x, x = (xP ζ_12.1 6 (fun _ => some q_14), ζ_12.2) := ⟨_, rfl⟩
        replace hN := hN.eqt (w2 := ζ_16.2) (by rw [e_ζ_16])
        refine g_putM hx hb hts S.2.2.2.1 hK hP hD hS in_X0 tyX0 tyX0_ok nmX0 0 rfl rfl 6 (by decide) q288 (fun _ h9 => h9) rfl (v := .ref q_14) rfl rfl rfl (Nat.le_of_ble_eq_true rfl) (w' := (XW d z b ζ_16.1 ++ [(q_14, .inr (11, [.int (0 : Int32), .ref q_11, .null, .null, .null, .null, .int (0 : Int32)]))]) ++ ζ_16.2) (by subst e_ζ_16; rfl) dX0_tuneFromMemory_64 ?_
        clear hP hD hS
        intro H locs hP hD hS hk
        replace hN := hN.keep hk
        replace hq_q_14 := hq_q_14.keep hk
        clear hk
        replace hf := nm_some hf ζ_16 e_ζ_16
        clear e_ζ_16
        refine lv_bipush (v := -2) hx hb dX0_tuneFromMemory_67 (by decide) ?_
        refine W.widen (k := 41013) (n := 123276) (Nat.le_of_ble_eq_true rfl) (Nat.le_of_ble_eq_true rfl) ?_
        obtain ⟨ζ_17, e_ζ_17⟩ : ∃ x, x = (ζ_16.1, [(q_14, .inr (11, [.int (0 : Int32), .ref q_11, .null, .null, .null, .null, .int (0 : Int32)]))] ++ ζ_16.2) := ⟨_, rfl⟩
        replace hN := MN.eqt (w2 := ζ_17.2) (w := [(q_14, .inr (11, [.int (0 : Int32), .ref q_11, .null, .null, .null, .null, .int (0 : Int32)]))] ++ ζ_16.2) (MN.cons hq_q_14 hN) (by rw [e_ζ_17])
        replace hf := nm_some hf ζ_17 e_ζ_17
        replace hP := kp_P (w := XW d z b ζ_16.1) (ks := [(q_14, .inr (11, [.int (0 : Int32), .ref q_11, .null, .null, .null, .null, .int (0 : Int32)]))]) (w' := XW d z b ζ_17.1) (t2 := ζ_17.2) hP (by subst e_ζ_17; rfl) (by subst e_ζ_17; rfl)
        replace hD := kp_D (w := XW d z b ζ_16.1) (ks := [(q_14, .inr (11, [.int (0 : Int32), .ref q_11, .null, .null, .null, .null, .int (0 : Int32)]))]) (w' := XW d z b ζ_17.1) (t2 := ζ_17.2) hD (by subst e_ζ_17; rfl) (by subst e_ζ_17; rfl)
        clear e_ζ_17
        exact hret _ _ _ _ _ _ _ hf dX0_tuneFromMemory_69 hP hD hS hN
      · replace hf := itU_f hf cc
        clear cc
        cases hf (fun _ => 0)
    · rintro ⟨u_20, r_18, ζ_19⟩ hφ H locs hP hD hS hk
      dsimp only at hP hD hk ⊢
      obtain ⟨hn, hk⟩ := hk
      replace hN := hN.keep hk
      replace hN := (hN.tr hn).eqt (w2 := ζ_19.2) rfl
      clear hn hk
      replace hf := fr_9 u_20 r_18 ζ_19 hφ
      clear ft_8 fr_9 h_7 hφ
      obtain ⟨r_22, h_21, hf⟩ := b1U hf
      have hPc := toT_P (isC := [16, 17]) (isR := [0, 1, 2, 3, 4, 5, 6, 7, 8, 9, 10, 11, 12, 13, 14, 15, 18, 19]) (wc := ALP d (b 17) (b 18) (ζ_19.1.1 70, ζ_19.1.1 72, ζ_19.1.2.2.2.2 18)) (wr := [(b 0, .inr (1, [.ref (b 1), .int (ζ_19.1.1 1), .int (ζ_19.1.1 2), .ref (b 2), .ref (b 3), .ref (b 4), va_rf (ζ_19.1.2.2.2.2 6 0), .ref (b 7), .ref (b 13), .ref (b 16), .int (ζ_19.1.1 10)])), (b 1, .inl (d 2, 500, .inl (ζ_19.1.2.2.1 1))), (b 2, .inl (d 5, 2, .inr (.inr (.inr (.inr (fun j => some (z.2.2 j))))))), (b 3, .inl (d 6, 5, .inr (.inr (.inr (.inr (fun j => some (z.2.2 (2 + j)))))))), (b 4, .inr (4, [.int (ζ_19.1.1 20), .long (ζ_19.1.2.1 21), .long (ζ_19.1.2.1 22), .long (ζ_19.1.2.1 23), .ref (b 5), .ref (b 6), .ref (b 0)])), (b 5, .inr (2, [.long (ζ_19.1.2.1 30), .long (ζ_19.1.2.1 31)])), (b 6, .inr (2, [.long (ζ_19.1.2.1 32), .long (ζ_19.1.2.1 33)])), (b 7, .inr (6, [.int (ζ_19.1.1 40), .int (ζ_19.1.1 41), .int (ζ_19.1.1 42), .int (ζ_19.1.1 43), .int (ζ_19.1.1 44), .int (ζ_19.1.1 45), .ref (b 8), .ref (b 9), .ref (b 10), .int (ζ_19.1.1 49), .ref (b 11), .ref (b 12), .int (ζ_19.1.1 52)])), (b 8, .inl (d 0, 16, .inl (ζ_19.1.2.2.1 46))), (b 9, .inl (d 1, 16, .inr (.inl (ζ_19.1.2.2.2.1 47)))), (b 10, .inl (d 1, 16, .inr (.inl (ζ_19.1.2.2.2.1 48)))), (b 11, .inl (d 0, 8, .inl (ζ_19.1.2.2.1 50))), (b 12, .inl (d 0, 8, .inl (ζ_19.1.2.2.1 51))), (b 13, .inr (8, [.int (ζ_19.1.1 60), .int (ζ_19.1.1 61), .int (ζ_19.1.1 62), .int (ζ_19.1.1 63), .ref (b 14), .ref (b 15), .int (ζ_19.1.1 66), .ref (b 17)])), (b 14, .inl (d 0, 100, .inl (ζ_19.1.2.2.1 64))), (b 15, .inl (d 3, 100, .inl (ζ_19.1.2.2.1 65))), (b 16, .inr (17, [.ref (b 19), .int (ζ_19.1.1 81), .int (ζ_19.1.1 82)])), (b 19, .inl (d 4, 17, .inr (.inr (.inr (.inr (ζ_19.1.2.2.2.2 19))))))]) (w := XW d z b ζ_19.1) (tl := ζ_19.2) hP rfl rfl
      have hDc := toT_D (isC := [16, 17]) (isR := [0, 1, 2, 3, 4, 5, 6, 7, 8, 9, 10, 11, 12, 13, 14, 15, 18, 19]) (wc := ALP d (b 17) (b 18) (ζ_19.1.1 70, ζ_19.1.1 72, ζ_19.1.2.2.2.2 18)) (wr := [(b 0, .inr (1, [.ref (b 1), .int (ζ_19.1.1 1), .int (ζ_19.1.1 2), .ref (b 2), .ref (b 3), .ref (b 4), va_rf (ζ_19.1.2.2.2.2 6 0), .ref (b 7), .ref (b 13), .ref (b 16), .int (ζ_19.1.1 10)])), (b 1, .inl (d 2, 500, .inl (ζ_19.1.2.2.1 1))), (b 2, .inl (d 5, 2, .inr (.inr (.inr (.inr (fun j => some (z.2.2 j))))))), (b 3, .inl (d 6, 5, .inr (.inr (.inr (.inr (fun j => some (z.2.2 (2 + j)))))))), (b 4, .inr (4, [.int (ζ_19.1.1 20), .long (ζ_19.1.2.1 21), .long (ζ_19.1.2.1 22), .long (ζ_19.1.2.1 23), .ref (b 5), .ref (b 6), .ref (b 0)])), (b 5, .inr (2, [.long (ζ_19.1.2.1 30), .long (ζ_19.1.2.1 31)])), (b 6, .inr (2, [.long (ζ_19.1.2.1 32), .long (ζ_19.1.2.1 33)])), (b 7, .inr (6, [.int (ζ_19.1.1 40), .int (ζ_19.1.1 41), .int (ζ_19.1.1 42), .int (ζ_19.1.1 43), .int (ζ_19.1.1 44), .int (ζ_19.1.1 45), .ref (b 8), .ref (b 9), .ref (b 10), .int (ζ_19.1.1 49), .ref (b 11), .ref (b 12), .int (ζ_19.1.1 52)])), (b 8, .inl (d 0, 16, .inl (ζ_19.1.2.2.1 46))), (b 9, .inl (d 1, 16, .inr (.inl (ζ_19.1.2.2.2.1 47)))), (b 10, .inl (d 1, 16, .inr (.inl (ζ_19.1.2.2.2.1 48)))), (b 11, .inl (d 0, 8, .inl (ζ_19.1.2.2.1 50))), (b 12, .inl (d 0, 8, .inl (ζ_19.1.2.2.1 51))), (b 13, .inr (8, [.int (ζ_19.1.1 60), .int (ζ_19.1.1 61), .int (ζ_19.1.1 62), .int (ζ_19.1.1 63), .ref (b 14), .ref (b 15), .int (ζ_19.1.1 66), .ref (b 17)])), (b 14, .inl (d 0, 100, .inl (ζ_19.1.2.2.1 64))), (b 15, .inl (d 3, 100, .inl (ζ_19.1.2.2.1 65))), (b 16, .inr (17, [.ref (b 19), .int (ζ_19.1.1 81), .int (ζ_19.1.1 82)])), (b 19, .inl (d 4, 17, .inr (.inr (.inr (.inr (ζ_19.1.2.2.2.2 19))))))]) (w := XW d z b ζ_19.1) (tl := ζ_19.2) hD rfl rfl rfl
      refine runW_rSM (va_runV (As := [.int r_18]) (rest := []) S (keR (tJ14_get l D d z (b 17) (b 18) ([(b 0, .inr (1, [.ref (b 1), .int (ζ_19.1.1 1), .int (ζ_19.1.1 2), .ref (b 2), .ref (b 3), .ref (b 4), va_rf (ζ_19.1.2.2.2.2 6 0), .ref (b 7), .ref (b 13), .ref (b 16), .int (ζ_19.1.1 10)])), (b 1, .inl (d 2, 500, .inl (ζ_19.1.2.2.1 1))), (b 2, .inl (d 5, 2, .inr (.inr (.inr (.inr (fun j => some (z.2.2 j))))))), (b 3, .inl (d 6, 5, .inr (.inr (.inr (.inr (fun j => some (z.2.2 (2 + j)))))))), (b 4, .inr (4, [.int (ζ_19.1.1 20), .long (ζ_19.1.2.1 21), .long (ζ_19.1.2.1 22), .long (ζ_19.1.2.1 23), .ref (b 5), .ref (b 6), .ref (b 0)])), (b 5, .inr (2, [.long (ζ_19.1.2.1 30), .long (ζ_19.1.2.1 31)])), (b 6, .inr (2, [.long (ζ_19.1.2.1 32), .long (ζ_19.1.2.1 33)])), (b 7, .inr (6, [.int (ζ_19.1.1 40), .int (ζ_19.1.1 41), .int (ζ_19.1.1 42), .int (ζ_19.1.1 43), .int (ζ_19.1.1 44), .int (ζ_19.1.1 45), .ref (b 8), .ref (b 9), .ref (b 10), .int (ζ_19.1.1 49), .ref (b 11), .ref (b 12), .int (ζ_19.1.1 52)])), (b 8, .inl (d 0, 16, .inl (ζ_19.1.2.2.1 46))), (b 9, .inl (d 1, 16, .inr (.inl (ζ_19.1.2.2.2.1 47)))), (b 10, .inl (d 1, 16, .inr (.inl (ζ_19.1.2.2.2.1 48)))), (b 11, .inl (d 0, 8, .inl (ζ_19.1.2.2.1 50))), (b 12, .inl (d 0, 8, .inl (ζ_19.1.2.2.1 51))), (b 13, .inr (8, [.int (ζ_19.1.1 60), .int (ζ_19.1.1 61), .int (ζ_19.1.1 62), .int (ζ_19.1.1 63), .ref (b 14), .ref (b 15), .int (ζ_19.1.1 66), .ref (b 17)])), (b 14, .inl (d 0, 100, .inl (ζ_19.1.2.2.1 64))), (b 15, .inl (d 3, 100, .inl (ζ_19.1.2.2.1 65))), (b 16, .inr (17, [.ref (b 19), .int (ζ_19.1.1 81), .int (ζ_19.1.1 82)])), (b 19, .inl (d 4, 17, .inr (.inr (.inr (.inr (ζ_19.1.2.2.2.2 19))))))] ++ ζ_19.2) K r_18 (ζ_19.1.1 70, ζ_19.1.1 72, ζ_19.1.2.2.2.2 18) r_22 h_21 _) H) (cwV 1 hts (lw_V q1393 q942 q943 q118 q944) rfl rfl rfl (by decide +kernel) ⟨(Nat.le_of_ble_eq_true rfl), (Nat.le_of_ble_eq_true rfl)⟩) ⟨kbl Pw.blind, (va_recv hK.1 hP (ci := 18) (q0 := 16) rfl rfl), fun U hU hW => ⟨Pw.at hK hPc hDc hZ hS hA hU hW, hU⟩⟩ rfl rfl hl.1 rfl (lv_room (Nat.le_of_ble_eq_true rfl)) dX0_tuneFromMemory_20 ⟨(Nat.le_of_ble_eq_true rfl), (Nat.le_of_ble_eq_true rfl)⟩) hPc hDc hS hA ?_
      clear hP hD hS hPc hDc
      intro _ _ H locs hP hD hS hk
      replace hN := hN.keep hk
      clear hk
      replace hP := ofT_P (perm := [2, 3, 4, 5, 6, 7, 8, 9, 10, 11, 12, 13, 14, 15, 16, 17, 0, 1, 18, 19]) (w' := XW d z b ζ_19.1) hP rfl
      replace hD := ofT_D (perm := [2, 3, 4, 5, 6, 7, 8, 9, 10, 11, 12, 13, 14, 15, 16, 17, 0, 1, 18, 19]) (w' := XW d z b ζ_19.1) hD rfl rfl
      clear h_21
      obtain ⟨t_23, m_24, hf⟩ := b1U hf
      replace m_24 := entOf_mem m_24
      refine g_castM hx hb hts S.2.2.2.1 hK hP (ci := 16) rfl (List.mem_append_right _ m_24) q1394 dX0_tuneFromMemory_23 ?_
      refine g_getMN (tl := ζ_19.2) hx hb hts S.2.2.2.1 hK hP in_X17 m_24 rfl 1 (by decide) q1516 (fun _ h9 => h9) (v := .int t_23.2.1) rfl dX0_tuneFromMemory_26 ?_
      refine lv_istore_n (lv' := [(1, .int t_23.2.1), (0, .ref (b 0))]) hx hb dX0_tuneFromMemory_29 rfl hl (by decide) rfl (fun ls hl => ?_)
      refine lv_aload_n hx hb dX0_tuneFromMemory_30 rfl (lv_at hl 1 rfl) ?_
      refine lv_aload_n hx hb dX0_tuneFromMemory_31 rfl (lv_at hl 1 rfl) ?_
      refine lv_iload_n hx hb dX0_tuneFromMemory_32 rfl (lv_at hl 0 rfl) ?_
      obtain ⟨r_26, ζ_27, h_25, hf⟩ := b2U hf
      obtain ⟨ζ_28, e_ζ_28⟩ : ∃ x, x = (xmrg ζ_19.1 ζ_27, ζ_19.2) := ⟨_, rfl⟩
      replace hN := hN.eqt (w2 := ζ_28.2) (by rw [e_ζ_28])
      refine run_iM (w := XW d z b ζ_19.1) (tl := ζ_19.2) (wr := [(b 17, .inr (18, [.int (ζ_19.1.1 70), .ref (b 18), .int (ζ_19.1.1 72)])), (b 18, .inl (d 4, 16, .inr (.inr (.inr (.inr (ζ_19.1.2.2.2.2 18)))))), (b 16, .inr (17, [.ref (b 19), .int (ζ_19.1.1 81), .int (ζ_19.1.1 82)])), (b 19, .inl (d 4, 17, .inr (.inr (.inr (.inr (ζ_19.1.2.2.2.2 19))))))]) (w' := XW d z b ζ_28.1) (va_runV (As := [.int t_23.2.1]) (rest := [.ref (b 0)]) S (keI (tX0_swrBy l D d z b (ζ_19.1.2.2.2.2 6 0) K t_23.2.1 ζ_19.1 r_26 ζ_27 h_25 _) H) (cwV 1 hts (lw_V q1148 q1150 qs32 q94 q1151) rfl rfl rfl (by decide +kernel) ⟨(Nat.le_of_ble_eq_true rfl), (Nat.le_of_ble_eq_true rfl)⟩) ⟨kbl Pw.blind, (va_recv hK.1 hP (ci := 1) (q0 := 0) rfl rfl), fun U hU hW => ⟨Pw.cut (w := XW d z b ζ_19.1) (tl := ζ_19.2) hK hP hD hZ hS hA [0, 1, 2, 3, 4, 5, 6, 7, 8, 9, 10, 11, 12, 13, 14, 15] rfl rfl hU hW, hU⟩⟩ rfl rfl hl.1 rfl (lv_room (Nat.le_of_ble_eq_true rfl)) dX0_tuneFromMemory_33 ⟨(Nat.le_of_ble_eq_true rfl), (Nat.le_of_ble_eq_true rfl)⟩) hP hD hS hA [0, 1, 2, 3, 4, 5, 6, 7, 8, 9, 10, 11, 12, 13, 14, 15] [16, 17, 18, 19] [4, 5, 6, 7, 8, 9, 10, 11, 12, 13, 14, 15, 16, 17, 18, 19, 0, 1, 2, 3] rfl rfl rfl rfl (by decide) rfl (by subst e_ζ_28; rfl) ?_
      clear hP hD hS
      intro H locs hP hD hS hk
      replace hN := hN.keep hk
      clear hk
      rw [show ζ_19.2 = ζ_28.2 from by subst e_ζ_28; rfl] at hP hD
      clear h_25
      replace hf := nmU hf ζ_28 e_ζ_28
      clear e_ζ_28
      refine lv_aload_n hx hb dX0_tuneFromMemory_36 rfl (lv_at hl 1 rfl) ?_
      refine lv_iconst (v := 0) hx hb dX0_tuneFromMemory_37 (by decide) ?_
      obtain ⟨r_30, ζ_31, h_29, hf⟩ := b2U hf
      obtain ⟨ζ_32, e_ζ_32⟩ : ∃ x, x = (xmrg ζ_28.1 ζ_31, ζ_28.2) := ⟨_, rfl⟩
      replace hN := hN.eqt (w2 := ζ_32.2) (by rw [e_ζ_32])
      refine run_iM (w := XW d z b ζ_28.1) (tl := ζ_28.2) (wr := [(b 17, .inr (18, [.int (ζ_28.1.1 70), .ref (b 18), .int (ζ_28.1.1 72)])), (b 18, .inl (d 4, 16, .inr (.inr (.inr (.inr (ζ_28.1.2.2.2.2 18)))))), (b 16, .inr (17, [.ref (b 19), .int (ζ_28.1.1 81), .int (ζ_28.1.1 82)])), (b 19, .inl (d 4, 17, .inr (.inr (.inr (.inr (ζ_28.1.2.2.2.2 19))))))]) (w' := XW d z b ζ_32.1) (va_runV (As := [.int (0 : Int32)]) (rest := [.int r_26, .ref (b 0)]) S (keI (tX0_swrBy l D d z b (ζ_28.1.2.2.2.2 6 0) K (0 : Int32) ζ_28.1 r_30 ζ_31 h_29 _) H) (cwV 1 hts (lw_V q1148 q1150 qs32 q94 q1151) rfl rfl rfl (by decide +kernel) ⟨(Nat.le_of_ble_eq_true rfl), (Nat.le_of_ble_eq_true rfl)⟩) ⟨kbl Pw.blind, (va_recv hK.1 hP (ci := 1) (q0 := 0) rfl rfl), fun U hU hW => ⟨Pw.cut (w := XW d z b ζ_28.1) (tl := ζ_28.2) hK hP hD hZ hS hA [0, 1, 2, 3, 4, 5, 6, 7, 8, 9, 10, 11, 12, 13, 14, 15] rfl rfl hU hW, hU⟩⟩ rfl rfl hl.1 rfl (lv_room (Nat.le_of_ble_eq_true rfl)) dX0_tuneFromMemory_38 ⟨(Nat.le_of_ble_eq_true rfl), (Nat.le_of_ble_eq_true rfl)⟩) hP hD hS hA [0, 1, 2, 3, 4, 5, 6, 7, 8, 9, 10, 11, 12, 13, 14, 15] [16, 17, 18, 19] [4, 5, 6, 7, 8, 9, 10, 11, 12, 13, 14, 15, 16, 17, 18, 19, 0, 1, 2, 3] rfl rfl rfl rfl (by decide) rfl (by subst e_ζ_32; rfl) ?_
      clear hP hD hS
      intro H locs hP hD hS hk
      replace hN := hN.keep hk
      clear hk
      rw [show ζ_28.2 = ζ_32.2 from by subst e_ζ_32; rfl] at hP hD
      clear h_29
      replace hf := nmU hf ζ_32 e_ζ_32
      clear e_ζ_32
      refine lv_icmp_gt (tgt := 48) hx hb dX0_tuneFromMemory_41 (by decide) (fun c_33 => ?_) (fun c_33 => ?_)
      · replace hf := itU_t hf c_33
        clear c_33
        refine lv_iconst (v := 0) hx hb dX0_tuneFromMemory_48 (by decide) ?_
        obtain ⟨y_35, h_34, hf⟩ := b2u_some hf
        refine runW_iSM (vx_runVW (hh := [((18 : Nat), (22 : Nat), (25 : Nat), (330 : Nat))]) (As := [.int (0 : Int32)]) (rest := []) S (keI2 (tX0_searchFrom l D d z b K (0 : Int32) ζ_32 y_35 h_34 _) H) (vx_cwVW 1 hts (lw_VW q1241 q1243 qs35 q94 q1244) rfl rfl rfl (by decide +kernel) ⟨(Nat.le_of_ble_eq_true rfl), (Nat.le_of_ble_eq_true rfl)⟩) ⟨kbl Pw.blind, (va_recv hK.1 hP (ci := 1) (q0 := 0) rfl rfl), fun U hU hW => ⟨Pw.at hK hP hD hZ hS hA hU hW, hU⟩⟩ rfl rfl hl.1 rfl (lv_room (Nat.le_of_ble_eq_true rfl)) dX0_tuneFromMemory_49 ⟨(Nat.le_of_ble_eq_true rfl), (Nat.le_of_ble_eq_true rfl)⟩) hP hD hS hA ?_
        clear hP hD hS
        intro u_38 _ H locs hP hD hS hk
        obtain ⟨hn, hk⟩ := hk
        replace hN := hN.keep hk
        clear hk
        replace hf := hf u_38
        generalize y_35 u_38 = w_39 at hf hP hD hn ⊢
        obtain ⟨r_36, ζ_37⟩ := w_39
        dsimp only at hf hP hD hn ⊢
        replace hN := (hN.tr hn).eqt (w2 := ζ_37.2) rfl
        clear hn
        clear h_34
        replace hf := hf (fun _ => 0)
        refine W.widen (k := 41013) (n := 123276) (Nat.le_of_ble_eq_true rfl) (Nat.le_of_ble_eq_true rfl) ?_
        exact hret _ _ _ _ _ _ _ hf dX0_tuneFromMemory_52 hP hD hS hN
      · replace hf := itU_f hf c_33
        clear c_33
        refine lv_iload_n hx hb dX0_tuneFromMemory_44 rfl (lv_at hl 0 rfl) ?_
        refine lv_goto (tgt := 49) hx hb dX0_tuneFromMemory_45 (by decide) ?_
        obtain ⟨y_41, h_40, hf⟩ := b2u_some hf
        refine runW_iSM (vx_runVW (hh := [((18 : Nat), (22 : Nat), (25 : Nat), (330 : Nat))]) (As := [.int t_23.2.1]) (rest := []) S (keI2 (tX0_searchFrom l D d z b K t_23.2.1 ζ_32 y_41 h_40 _) H) (vx_cwVW 1 hts (lw_VW q1241 q1243 qs35 q94 q1244) rfl rfl rfl (by decide +kernel) ⟨(Nat.le_of_ble_eq_true rfl), (Nat.le_of_ble_eq_true rfl)⟩) ⟨kbl Pw.blind, (va_recv hK.1 hP (ci := 1) (q0 := 0) rfl rfl), fun U hU hW => ⟨Pw.at hK hP hD hZ hS hA hU hW, hU⟩⟩ rfl rfl hl.1 rfl (lv_room (Nat.le_of_ble_eq_true rfl)) dX0_tuneFromMemory_49 ⟨(Nat.le_of_ble_eq_true rfl), (Nat.le_of_ble_eq_true rfl)⟩) hP hD hS hA ?_
        clear hP hD hS
        intro u_44 _ H locs hP hD hS hk
        obtain ⟨hn, hk⟩ := hk
        replace hN := hN.keep hk
        clear hk
        replace hf := hf u_44
        generalize y_41 u_44 = w_45 at hf hP hD hn ⊢
        obtain ⟨r_42, ζ_43⟩ := w_45
        dsimp only at hf hP hD hn ⊢
        replace hN := (hN.tr hn).eqt (w2 := ζ_43.2) rfl
        clear hn
        clear h_40
        replace hf := hf (fun _ => 0)
        refine W.widen (k := 41013) (n := 123276) (Nat.le_of_ble_eq_true rfl) (Nat.le_of_ble_eq_true rfl) ?_
        exact hret _ _ _ _ _ _ _ hf dX0_tuneFromMemory_52 hP hD hS hN
  · replace hf := itU_f hf (bi_e0 c_5)
    clear c_5
    replace hf := hf (fun _ => 0)
    refine lv_iconst (v := -1) hx hb dX0_tuneFromMemory_7 (by decide) ?_
    refine W.widen (k := 41013) (n := 123276) (Nat.le_of_ble_eq_true rfl) (Nat.le_of_ble_eq_true rfl) ?_
    exact hret _ _ _ _ _ _ _ hf dX0_tuneFromMemory_8 hP hD hS hN
noncomputable def fX0_recall (K : Nat) (d : Nat → ClassId) (u : UU) (μ : XT) : Option (Int32 × XT) :=
  b2 (fX0_isReady K μ.1) fun r_2 ζ_3 =>
  nm ((xmrg μ.1 ζ_3, μ.2)) fun ζ_4 =>
  if r_2 = true then
    b3u u (fun u => fX0_suitable K d u ζ_4) (fun c_10 q_11 ζ_12 u =>
        if c_10 = 14 then
          nm ((xP ζ_12.1 6 (fun _ => some q_11), ζ_12.2)) fun ζ_14 =>
          some ((-2 : Int32), ζ_14)
        else
          none
      ) fun r_15 ζ_16 u =>
      nm ((xP ζ_16.1 6 (fun _ => none), ζ_16.2)) fun ζ_18 =>
      b1 (fJ14_get K r_15 (ζ_18.1.1 70, ζ_18.1.1 72, ζ_18.1.2.2.2.2 18)) fun r_20 =>
      b1 (entOf ζ_18.2 r_20) fun t_21 =>
      b1 (fX2_of K t_21.2.1) fun r_24 =>
      b1u u (fun u => fX0_change K d (r_24.1, r_24.2.1, r_24.2.2) u ζ_18) fun ζ_28 u =>
      some (r_15, ζ_28)
  else
    some ((-1 : Int32), ζ_4)
set_option maxHeartbeats 4000000 in
set_option maxRecDepth 100000 in
theorem tX0_recall (l : Launch) (D : va_G) (d : Nat → ClassId) (z : ZT) (b : Nat → Nat) (K : Nat) (μ : XT) (y : UU → (Int32 × XT)) (hf : ∀ u, fX0_recall K d u μ = some (y u)) : CISM l yX0_recall (wsW_ yX0_recall cX0_recall 3 (Option.some Jvm.ClassFile.FieldType.int) [((9 : Nat), (14 : Nat), (17 : Nat), (357 : Nat))]) (rmc 7 8 244 136) D d z [.ref (b 0)] (XW d z b μ.1 ++ μ.2) (fun u : UU => (y u).1) (fun u : UU => XW d z b (y u).2.1 ++ (y u).2.2) (fun _ => True) μ.2 (fun u => (y u).2.2) := by
  refine CISM.ofH (own := RX0) rfl (by decide) (Nat.le_of_ble_eq_true rfl) (fun _ => rfl) ?_
  intro p e s m args below meth c A Q ls S hin htab hK hP hD hZ hS hA hl hret0
  have hret : ∀ (U0 : UU) (x : Int32) (μx : XT) (H : Heap) (locs : List Loc) (pc : Nat) (ls' : Array Slot), some (x, μx) = some (y U0) → decode cX0_recall pc = .ok (.ireturn, 1) → va_P D CL (XW d z b μx.1 ++ μx.2) H → va_D A (XW d z b μx.1 ++ μx.2) → va_S A s.heap H locs → MN μ.2 μx.2 H → W p l e (rmc 7 8 244 136) s m args below meth c H locs 8 244 Q (F0 m pc ls' [.int x]) := by
    intro U0 x μx H locs pc ls' h9 hdg hP hD hS hN
    have h8 := hret0 U0 trivial H locs pc ls' hdg
    rw [← Option.some.inj h9] at h8
    exact h8 hP hD hS hN
  have hx := S.1
  have hb := S.2.1
  have hts := S.2.2.2.2
  have hl : lv_has ls 3 [(0, .ref (b 0))] := hl
  unfold fX0_recall at hf
  have hN : MN μ.2 μ.2 s.heap := MN.rf
  refine lv_aload_n hx hb dX0_recall_0 rfl (lv_at hl 0 rfl) ?_
  obtain ⟨r_2, ζ_3, h_1, hf⟩ := b2U hf
  obtain ⟨ζ_4, e_ζ_4⟩ : ∃ x, x = (xmrg μ.1 ζ_3, μ.2) := ⟨_, rfl⟩
  replace hN := hN.eqt (w2 := ζ_4.2) (by rw [e_ζ_4])
  refine run_iM (w := XW d z b μ.1) (tl := μ.2) (wr := [(b 17, .inr (18, [.int (μ.1.1 70), .ref (b 18), .int (μ.1.1 72)])), (b 18, .inl (d 4, 16, .inr (.inr (.inr (.inr (μ.1.2.2.2.2 18)))))), (b 16, .inr (17, [.ref (b 19), .int (μ.1.1 81), .int (μ.1.1 82)])), (b 19, .inl (d 4, 17, .inr (.inr (.inr (.inr (μ.1.2.2.2.2 19))))))]) (w' := XW d z b ζ_4.1) (va_runV (As := []) (rest := []) S (keI (tX0_isReady l D d z b (μ.1.2.2.2.2 6 0) K μ.1 r_2 ζ_3 h_1 _) s.heap) (cwV 0 hts (lw_V q857 q859 qs18 q94 q860) rfl rfl rfl (by decide +kernel) ⟨(Nat.le_of_ble_eq_true rfl), (Nat.le_of_ble_eq_true rfl)⟩) ⟨kbl Pw.blind, (va_recv hK.1 hP (ci := 1) (q0 := 0) rfl rfl), fun U hU hW => ⟨Pw.cut (w := XW d z b μ.1) (tl := μ.2) hK hP hD hZ hS hA [0, 1, 2, 3, 4, 5, 6, 7, 8, 9, 10, 11, 12, 13, 14, 15] rfl rfl hU hW, hU⟩⟩ rfl rfl hl.1 rfl (lv_room (Nat.le_of_ble_eq_true rfl)) dX0_recall_1 ⟨(Nat.le_of_ble_eq_true rfl), (Nat.le_of_ble_eq_true rfl)⟩) hP hD hS hA [0, 1, 2, 3, 4, 5, 6, 7, 8, 9, 10, 11, 12, 13, 14, 15] [16, 17, 18, 19] [4, 5, 6, 7, 8, 9, 10, 11, 12, 13, 14, 15, 16, 17, 18, 19, 0, 1, 2, 3] rfl rfl rfl rfl (by decide) rfl (by subst e_ζ_4; rfl) ?_
  clear hP hD hS
  intro H locs hP hD hS hk
  replace hN := hN.keep hk
  clear hk
  rw [show μ.2 = ζ_4.2 from by subst e_ζ_4; rfl] at hP hD
  clear h_1
  replace hf := nmU hf ζ_4 e_ζ_4
  clear e_ζ_4
  refine lv_if_ne (tgt := 9) hx hb dX0_recall_4 (by decide) (fun c_5 => ?_) (fun c_5 => ?_)
  · replace hf := itU_t hf (bi_n0 c_5)
    clear c_5
    refine lv_aload_n hx hb dX0_recall_9 rfl (lv_at hl 0 rfl) ?_
    obtain ⟨y_6, h_7, ft_8, fr_9⟩ := b3u_some hf
    refine runT_iM (vx_runV (As := []) (rest := []) S (kxI2 (tX0_suitable l D d z b K ζ_4 y_6 h_7 _) H) (cwV 0 hts (lw_V q1388 q1390 qs41 q94 q1391) rfl rfl rfl (by decide +kernel) ⟨(Nat.le_of_ble_eq_true rfl), (Nat.le_of_ble_eq_true rfl)⟩) ⟨kbl Pw.blind, (va_recv hK.1 hP (ci := 1) (q0 := 0) rfl rfl), fun U hU hW => ⟨Pw.at hK hP hD hZ hS hA hU hW, hU⟩⟩ rfl rfl hl.1 rfl (lv_room (Nat.le_of_ble_eq_true rfl)) dX0_recall_10 ⟨(Nat.le_of_ble_eq_true rfl), (Nat.le_of_ble_eq_true rfl)⟩) hP hD hS hA ?_ ?_
    · rintro ⟨u_13, c_10, q_11, ζ_12⟩ hψ H locs hP hD hS hk hm
      dsimp only at hP hD hk hm ⊢
      obtain ⟨hn, hk⟩ := hk
      replace hN := hN.keep hk
      replace hN := (hN.tr hn).eqt (w2 := ζ_12.2) rfl
      clear hn hk
      replace hf := ft_8 u_13 c_10 q_11 ζ_12 hψ
      clear ft_8 fr_9 h_7 hψ
      by_cases cc : c_10 = 14
      · replace hf := itU_t hf cc
        subst cc
        obtain ⟨ce, g1, g2, g3⟩ := ex_cell hK hP hm
        refine vx_catch (own := RX0) (E := RX15) (name := RX15) S.2.2.2.1 ((tableOf [((9 : Nat), (14 : Nat), (17 : Nat), (357 : Nat))]).take 0) ((tableOf [((9 : Nat), (14 : Nat), (17 : Nat), (357 : Nat))])[0]) ((tableOf [((9 : Nat), (14 : Nat), (17 : Nat), (357 : Nat))]).drop 1) (by rw [htab]; rfl) (fun z9 hz9 => by
      cases hz9) (by decide) (by decide) (hts _ q1387) (va_Nw.use rfl (hK.2 _ q1407 rfl)) g1 g2 g3 ?_
        clear g1 g2 g3 ce
        replace hf := hf (fun _ => 0)
        refine lv_astore_n (lv' := [(2, .ref q_11), (0, .ref (b 0))]) hx hb dX0_recall_17 rfl hl (by decide) rfl (fun ls hl => ?_)
        refine lv_aload_n hx hb dX0_recall_18 rfl (lv_at hl 1 rfl) ?_
        refine lv_aload_n hx hb dX0_recall_19 rfl (lv_at hl 0 rfl) ?_
        obtain ⟨ζ_14, e_ζ_14⟩ : ∃ x, x = (xP ζ_12.1 6 (fun _ => some q_11), ζ_12.2) := ⟨_, rfl⟩
        replace hN := hN.eqt (w2 := ζ_14.2) (by rw [e_ζ_14])
        refine g_putM hx hb hts S.2.2.2.1 hK hP hD hS in_X0 tyX0 tyX0_ok nmX0 0 rfl rfl 6 (by decide) q288 (fun _ h9 => h9) rfl (v := .ref q_11) rfl rfl rfl (Nat.le_of_ble_eq_true rfl) (w' := XW d z b ζ_14.1 ++ ζ_14.2) (by subst e_ζ_14; rfl) dX0_recall_20 ?_
        clear hP hD hS
        intro H locs hP hD hS hk
        replace hN := hN.keep hk
        clear hk
        replace hf := nm_some hf ζ_14 e_ζ_14
        clear e_ζ_14
        refine lv_bipush (v := -2) hx hb dX0_recall_23 (by decide) ?_
        refine W.widen (k := 8) (n := 244) (Nat.le_of_ble_eq_true rfl) (Nat.le_of_ble_eq_true rfl) ?_
        exact hret _ _ _ _ _ _ _ hf dX0_recall_25 hP hD hS hN
      · replace hf := itU_f hf cc
        clear cc
        cases hf (fun _ => 0)
    · rintro ⟨u_17, r_15, ζ_16⟩ hφ H locs hP hD hS hk
      dsimp only at hP hD hk ⊢
      obtain ⟨hn, hk⟩ := hk
      replace hN := hN.keep hk
      replace hN := (hN.tr hn).eqt (w2 := ζ_16.2) rfl
      clear hn hk
      replace hf := fr_9 u_17 r_15 ζ_16 hφ
      clear ft_8 fr_9 h_7 hφ
      refine lv_istore_n (lv' := [(1, .int r_15), (0, .ref (b 0))]) hx hb dX0_recall_13 rfl hl (by decide) rfl (fun ls hl => ?_)
      refine lv_goto (tgt := 26) hx hb dX0_recall_14 (by decide) ?_
      refine lv_aload_n hx hb dX0_recall_26 rfl (lv_at hl 1 rfl) ?_
      refine lv_null hx hb dX0_recall_27 ?_
      obtain ⟨ζ_18, e_ζ_18⟩ : ∃ x, x = (xP ζ_16.1 6 (fun _ => none), ζ_16.2) := ⟨_, rfl⟩
      replace hN := hN.eqt (w2 := ζ_18.2) (by rw [e_ζ_18])
      refine g_putM hx hb hts S.2.2.2.1 hK hP hD hS in_X0 tyX0 tyX0_ok nmX0 0 rfl rfl 6 (by decide) q288 (fun _ h9 => h9) rfl (v := .null) rfl rfl rfl (Nat.le_of_ble_eq_true rfl) (w' := XW d z b ζ_18.1 ++ ζ_18.2) (by subst e_ζ_18; rfl) dX0_recall_28 ?_
      clear hP hD hS
      intro H locs hP hD hS hk
      replace hN := hN.keep hk
      clear hk
      replace hf := nmU hf ζ_18 e_ζ_18
      clear e_ζ_18
      refine lv_aload_n hx hb dX0_recall_31 rfl (lv_at hl 1 rfl) ?_
      refine lv_aload_n hx hb dX0_recall_32 rfl (lv_at hl 1 rfl) ?_
      refine g_get hx hb hts S.2.2.2.1 hK hP in_X0 0 rfl rfl 8 (by decide) q293 (fun _ h9 => h9) (v := .ref (b 13)) rfl dX0_recall_33 ?_
      refine g_getN hx hb hts S.2.2.2.1 hK hP in_X8 13 rfl rfl 7 (by decide) q823 (fun _ h9 => h9) (v := .ref (b 17)) rfl dX0_recall_36 ?_
      refine lv_iload_n hx hb dX0_recall_39 rfl (lv_at hl 0 rfl) ?_
      obtain ⟨r_20, h_19, hf⟩ := b1U hf
      have hPc := toT_P (isC := [16, 17]) (isR := [0, 1, 2, 3, 4, 5, 6, 7, 8, 9, 10, 11, 12, 13, 14, 15, 18, 19]) (wc := ALP d (b 17) (b 18) (ζ_18.1.1 70, ζ_18.1.1 72, ζ_18.1.2.2.2.2 18)) (wr := [(b 0, .inr (1, [.ref (b 1), .int (ζ_18.1.1 1), .int (ζ_18.1.1 2), .ref (b 2), .ref (b 3), .ref (b 4), va_rf (ζ_18.1.2.2.2.2 6 0), .ref (b 7), .ref (b 13), .ref (b 16), .int (ζ_18.1.1 10)])), (b 1, .inl (d 2, 500, .inl (ζ_18.1.2.2.1 1))), (b 2, .inl (d 5, 2, .inr (.inr (.inr (.inr (fun j => some (z.2.2 j))))))), (b 3, .inl (d 6, 5, .inr (.inr (.inr (.inr (fun j => some (z.2.2 (2 + j)))))))), (b 4, .inr (4, [.int (ζ_18.1.1 20), .long (ζ_18.1.2.1 21), .long (ζ_18.1.2.1 22), .long (ζ_18.1.2.1 23), .ref (b 5), .ref (b 6), .ref (b 0)])), (b 5, .inr (2, [.long (ζ_18.1.2.1 30), .long (ζ_18.1.2.1 31)])), (b 6, .inr (2, [.long (ζ_18.1.2.1 32), .long (ζ_18.1.2.1 33)])), (b 7, .inr (6, [.int (ζ_18.1.1 40), .int (ζ_18.1.1 41), .int (ζ_18.1.1 42), .int (ζ_18.1.1 43), .int (ζ_18.1.1 44), .int (ζ_18.1.1 45), .ref (b 8), .ref (b 9), .ref (b 10), .int (ζ_18.1.1 49), .ref (b 11), .ref (b 12), .int (ζ_18.1.1 52)])), (b 8, .inl (d 0, 16, .inl (ζ_18.1.2.2.1 46))), (b 9, .inl (d 1, 16, .inr (.inl (ζ_18.1.2.2.2.1 47)))), (b 10, .inl (d 1, 16, .inr (.inl (ζ_18.1.2.2.2.1 48)))), (b 11, .inl (d 0, 8, .inl (ζ_18.1.2.2.1 50))), (b 12, .inl (d 0, 8, .inl (ζ_18.1.2.2.1 51))), (b 13, .inr (8, [.int (ζ_18.1.1 60), .int (ζ_18.1.1 61), .int (ζ_18.1.1 62), .int (ζ_18.1.1 63), .ref (b 14), .ref (b 15), .int (ζ_18.1.1 66), .ref (b 17)])), (b 14, .inl (d 0, 100, .inl (ζ_18.1.2.2.1 64))), (b 15, .inl (d 3, 100, .inl (ζ_18.1.2.2.1 65))), (b 16, .inr (17, [.ref (b 19), .int (ζ_18.1.1 81), .int (ζ_18.1.1 82)])), (b 19, .inl (d 4, 17, .inr (.inr (.inr (.inr (ζ_18.1.2.2.2.2 19))))))]) (w := XW d z b ζ_18.1) (tl := ζ_18.2) hP rfl rfl
      have hDc := toT_D (isC := [16, 17]) (isR := [0, 1, 2, 3, 4, 5, 6, 7, 8, 9, 10, 11, 12, 13, 14, 15, 18, 19]) (wc := ALP d (b 17) (b 18) (ζ_18.1.1 70, ζ_18.1.1 72, ζ_18.1.2.2.2.2 18)) (wr := [(b 0, .inr (1, [.ref (b 1), .int (ζ_18.1.1 1), .int (ζ_18.1.1 2), .ref (b 2), .ref (b 3), .ref (b 4), va_rf (ζ_18.1.2.2.2.2 6 0), .ref (b 7), .ref (b 13), .ref (b 16), .int (ζ_18.1.1 10)])), (b 1, .inl (d 2, 500, .inl (ζ_18.1.2.2.1 1))), (b 2, .inl (d 5, 2, .inr (.inr (.inr (.inr (fun j => some (z.2.2 j))))))), (b 3, .inl (d 6, 5, .inr (.inr (.inr (.inr (fun j => some (z.2.2 (2 + j)))))))), (b 4, .inr (4, [.int (ζ_18.1.1 20), .long (ζ_18.1.2.1 21), .long (ζ_18.1.2.1 22), .long (ζ_18.1.2.1 23), .ref (b 5), .ref (b 6), .ref (b 0)])), (b 5, .inr (2, [.long (ζ_18.1.2.1 30), .long (ζ_18.1.2.1 31)])), (b 6, .inr (2, [.long (ζ_18.1.2.1 32), .long (ζ_18.1.2.1 33)])), (b 7, .inr (6, [.int (ζ_18.1.1 40), .int (ζ_18.1.1 41), .int (ζ_18.1.1 42), .int (ζ_18.1.1 43), .int (ζ_18.1.1 44), .int (ζ_18.1.1 45), .ref (b 8), .ref (b 9), .ref (b 10), .int (ζ_18.1.1 49), .ref (b 11), .ref (b 12), .int (ζ_18.1.1 52)])), (b 8, .inl (d 0, 16, .inl (ζ_18.1.2.2.1 46))), (b 9, .inl (d 1, 16, .inr (.inl (ζ_18.1.2.2.2.1 47)))), (b 10, .inl (d 1, 16, .inr (.inl (ζ_18.1.2.2.2.1 48)))), (b 11, .inl (d 0, 8, .inl (ζ_18.1.2.2.1 50))), (b 12, .inl (d 0, 8, .inl (ζ_18.1.2.2.1 51))), (b 13, .inr (8, [.int (ζ_18.1.1 60), .int (ζ_18.1.1 61), .int (ζ_18.1.1 62), .int (ζ_18.1.1 63), .ref (b 14), .ref (b 15), .int (ζ_18.1.1 66), .ref (b 17)])), (b 14, .inl (d 0, 100, .inl (ζ_18.1.2.2.1 64))), (b 15, .inl (d 3, 100, .inl (ζ_18.1.2.2.1 65))), (b 16, .inr (17, [.ref (b 19), .int (ζ_18.1.1 81), .int (ζ_18.1.1 82)])), (b 19, .inl (d 4, 17, .inr (.inr (.inr (.inr (ζ_18.1.2.2.2.2 19))))))]) (w := XW d z b ζ_18.1) (tl := ζ_18.2) hD rfl rfl rfl
      refine runW_rSM (va_runV (As := [.int r_15]) (rest := [.ref (b 0)]) S (keR (tJ14_get l D d z (b 17) (b 18) ([(b 0, .inr (1, [.ref (b 1), .int (ζ_18.1.1 1), .int (ζ_18.1.1 2), .ref (b 2), .ref (b 3), .ref (b 4), va_rf (ζ_18.1.2.2.2.2 6 0), .ref (b 7), .ref (b 13), .ref (b 16), .int (ζ_18.1.1 10)])), (b 1, .inl (d 2, 500, .inl (ζ_18.1.2.2.1 1))), (b 2, .inl (d 5, 2, .inr (.inr (.inr (.inr (fun j => some (z.2.2 j))))))), (b 3, .inl (d 6, 5, .inr (.inr (.inr (.inr (fun j => some (z.2.2 (2 + j)))))))), (b 4, .inr (4, [.int (ζ_18.1.1 20), .long (ζ_18.1.2.1 21), .long (ζ_18.1.2.1 22), .long (ζ_18.1.2.1 23), .ref (b 5), .ref (b 6), .ref (b 0)])), (b 5, .inr (2, [.long (ζ_18.1.2.1 30), .long (ζ_18.1.2.1 31)])), (b 6, .inr (2, [.long (ζ_18.1.2.1 32), .long (ζ_18.1.2.1 33)])), (b 7, .inr (6, [.int (ζ_18.1.1 40), .int (ζ_18.1.1 41), .int (ζ_18.1.1 42), .int (ζ_18.1.1 43), .int (ζ_18.1.1 44), .int (ζ_18.1.1 45), .ref (b 8), .ref (b 9), .ref (b 10), .int (ζ_18.1.1 49), .ref (b 11), .ref (b 12), .int (ζ_18.1.1 52)])), (b 8, .inl (d 0, 16, .inl (ζ_18.1.2.2.1 46))), (b 9, .inl (d 1, 16, .inr (.inl (ζ_18.1.2.2.2.1 47)))), (b 10, .inl (d 1, 16, .inr (.inl (ζ_18.1.2.2.2.1 48)))), (b 11, .inl (d 0, 8, .inl (ζ_18.1.2.2.1 50))), (b 12, .inl (d 0, 8, .inl (ζ_18.1.2.2.1 51))), (b 13, .inr (8, [.int (ζ_18.1.1 60), .int (ζ_18.1.1 61), .int (ζ_18.1.1 62), .int (ζ_18.1.1 63), .ref (b 14), .ref (b 15), .int (ζ_18.1.1 66), .ref (b 17)])), (b 14, .inl (d 0, 100, .inl (ζ_18.1.2.2.1 64))), (b 15, .inl (d 3, 100, .inl (ζ_18.1.2.2.1 65))), (b 16, .inr (17, [.ref (b 19), .int (ζ_18.1.1 81), .int (ζ_18.1.1 82)])), (b 19, .inl (d 4, 17, .inr (.inr (.inr (.inr (ζ_18.1.2.2.2.2 19))))))] ++ ζ_18.2) K r_15 (ζ_18.1.1 70, ζ_18.1.1 72, ζ_18.1.2.2.2.2 18) r_20 h_19 _) H) (cwV 1 hts (lw_V q1393 q942 q943 q118 q944) rfl rfl rfl (by decide +kernel) ⟨(Nat.le_of_ble_eq_true rfl), (Nat.le_of_ble_eq_true rfl)⟩) ⟨kbl Pw.blind, (va_recv hK.1 hP (ci := 18) (q0 := 16) rfl rfl), fun U hU hW => ⟨Pw.at hK hPc hDc hZ hS hA hU hW, hU⟩⟩ rfl rfl hl.1 rfl (lv_room (Nat.le_of_ble_eq_true rfl)) dX0_recall_40 ⟨(Nat.le_of_ble_eq_true rfl), (Nat.le_of_ble_eq_true rfl)⟩) hPc hDc hS hA ?_
      clear hP hD hS hPc hDc
      intro _ _ H locs hP hD hS hk
      replace hN := hN.keep hk
      clear hk
      replace hP := ofT_P (perm := [2, 3, 4, 5, 6, 7, 8, 9, 10, 11, 12, 13, 14, 15, 16, 17, 0, 1, 18, 19]) (w' := XW d z b ζ_18.1) hP rfl
      replace hD := ofT_D (perm := [2, 3, 4, 5, 6, 7, 8, 9, 10, 11, 12, 13, 14, 15, 16, 17, 0, 1, 18, 19]) (w' := XW d z b ζ_18.1) hD rfl rfl
      clear h_19
      obtain ⟨t_21, m_22, hf⟩ := b1U hf
      replace m_22 := entOf_mem m_22
      refine g_castM hx hb hts S.2.2.2.1 hK hP (ci := 16) rfl (List.mem_append_right _ m_22) q1394 dX0_recall_43 ?_
      refine g_getMN (tl := ζ_18.2) hx hb hts S.2.2.2.1 hK hP in_X17 m_22 rfl 1 (by decide) q1516 (fun _ h9 => h9) (v := .int t_21.2.1) rfl dX0_recall_46 ?_
      obtain ⟨r_24, h_23, hf⟩ := b1U hf
      refine run_rSM (w := XW d z b ζ_18.1) (tl := ζ_18.2) (wr := [(b 0, .inr (1, [.ref (b 1), .int (ζ_18.1.1 1), .int (ζ_18.1.1 2), .ref (b 2), .ref (b 3), .ref (b 4), va_rf (ζ_18.1.2.2.2.2 6 0), .ref (b 7), .ref (b 13), .ref (b 16), .int (ζ_18.1.1 10)])), (b 1, .inl (d 2, 500, .inl (ζ_18.1.2.2.1 1))), (b 2, .inl (d 5, 2, .inr (.inr (.inr (.inr (fun j => some (z.2.2 j))))))), (b 3, .inl (d 6, 5, .inr (.inr (.inr (.inr (fun j => some (z.2.2 (2 + j)))))))), (b 4, .inr (4, [.int (ζ_18.1.1 20), .long (ζ_18.1.2.1 21), .long (ζ_18.1.2.1 22), .long (ζ_18.1.2.1 23), .ref (b 5), .ref (b 6), .ref (b 0)])), (b 5, .inr (2, [.long (ζ_18.1.2.1 30), .long (ζ_18.1.2.1 31)])), (b 6, .inr (2, [.long (ζ_18.1.2.1 32), .long (ζ_18.1.2.1 33)])), (b 7, .inr (6, [.int (ζ_18.1.1 40), .int (ζ_18.1.1 41), .int (ζ_18.1.1 42), .int (ζ_18.1.1 43), .int (ζ_18.1.1 44), .int (ζ_18.1.1 45), .ref (b 8), .ref (b 9), .ref (b 10), .int (ζ_18.1.1 49), .ref (b 11), .ref (b 12), .int (ζ_18.1.1 52)])), (b 8, .inl (d 0, 16, .inl (ζ_18.1.2.2.1 46))), (b 9, .inl (d 1, 16, .inr (.inl (ζ_18.1.2.2.2.1 47)))), (b 10, .inl (d 1, 16, .inr (.inl (ζ_18.1.2.2.2.1 48)))), (b 11, .inl (d 0, 8, .inl (ζ_18.1.2.2.1 50))), (b 12, .inl (d 0, 8, .inl (ζ_18.1.2.2.1 51))), (b 13, .inr (8, [.int (ζ_18.1.1 60), .int (ζ_18.1.1 61), .int (ζ_18.1.1 62), .int (ζ_18.1.1 63), .ref (b 14), .ref (b 15), .int (ζ_18.1.1 66), .ref (b 17)])), (b 14, .inl (d 0, 100, .inl (ζ_18.1.2.2.1 64))), (b 15, .inl (d 3, 100, .inl (ζ_18.1.2.2.1 65))), (b 17, .inr (18, [.int (ζ_18.1.1 70), .ref (b 18), .int (ζ_18.1.1 72)])), (b 18, .inl (d 4, 16, .inr (.inr (.inr (.inr (ζ_18.1.2.2.2.2 18)))))), (b 16, .inr (17, [.ref (b 19), .int (ζ_18.1.1 81), .int (ζ_18.1.1 82)])), (b 19, .inl (d 4, 17, .inr (.inr (.inr (.inr (ζ_18.1.2.2.2.2 19))))))]) (w' := fun u => (XW d z b ζ_18.1 ++ [(u, .inr (3, [.int r_24.1, .int r_24.2.1, .int r_24.2.2]))])) (va_runS (As := [.int t_21.2.1]) (rest := [.ref (b 0)]) S (keR (tX2_of l D d z K t_21.2.1 r_24 h_23 _) H) (va_cwS 1 hts (lw_S q1039 q1040 q97 q1041) rfl rfl rfl (by decide +kernel) ⟨(Nat.le_of_ble_eq_true rfl), (Nat.le_of_ble_eq_true rfl)⟩) ⟨kbl Pw.blind, fun U hU hW => ⟨Pw.cut (w := XW d z b ζ_18.1) (tl := ζ_18.2) hK hP hD hZ hS hA [] rfl rfl hU hW, hU⟩⟩ rfl rfl hl.1 rfl (lv_room (Nat.le_of_ble_eq_true rfl)) dX0_recall_49 ⟨(Nat.le_of_ble_eq_true rfl), (Nat.le_of_ble_eq_true rfl)⟩) hP hD hS hA [] [0, 1, 2, 3, 4, 5, 6, 7, 8, 9, 10, 11, 12, 13, 14, 15, 16, 17, 18, 19] [0, 1, 2, 3, 4, 5, 6, 7, 8, 9, 10, 11, 12, 13, 14, 15, 16, 17, 18, 19, 20] rfl rfl rfl rfl (by decide) rfl (fun _ => rfl) ?_
      clear hP hD hS
      intro q_25 _ H locs hP hD hS hk
      replace hN := hN.keep hk
      clear hk
      clear h_23
      obtain ⟨y_27, h_26, hf⟩ := b1u_some hf
      refine runW_vSM (va_runV (As := [.ref q_25]) (rest := []) S (keV (tX0_change l D d z b K q_25 (r_24.1, r_24.2.1, r_24.2.2) ζ_18 y_27 h_26 _) H) (cwV 1 hts (lw_V q1044 q1046 qs28 q94 q1047) rfl rfl rfl (by decide +kernel) ⟨(Nat.le_of_ble_eq_true rfl), (Nat.le_of_ble_eq_true rfl)⟩) ⟨kbl Pw.blind, (va_recv hK.1 hP (ci := 1) (q0 := 0) rfl rfl), fun U hU hW => ⟨Pw.at hK hP hD hZ hS hA hU hW, hU⟩⟩ rfl rfl hl.1 rfl (lv_room (Nat.le_of_ble_eq_true rfl)) dX0_recall_52 ⟨(Nat.le_of_ble_eq_true rfl), (Nat.le_of_ble_eq_true rfl)⟩) hP hD hS hA ?_
      clear hP hD hS
      intro u_29 _ H locs hP hD hS hk
      replace hN := hN.keep hk
      clear hk
      replace hf := hf u_29
      have hn := mn_change (h_26 u_29)
      generalize y_27 u_29 = ζ_28 at hf hP hD hn ⊢
      replace hN := hN.sub (w2 := ζ_28.2) hn
      clear hn
      clear h_26
      replace hf := hf (fun _ => 0)
      refine lv_iload_n hx hb dX0_recall_55 rfl (lv_at hl 0 rfl) ?_
      refine W.widen (k := 8) (n := 244) (Nat.le_of_ble_eq_true rfl) (Nat.le_of_ble_eq_true rfl) ?_
      exact hret _ _ _ _ _ _ _ hf dX0_recall_56 hP hD hS hN
  · replace hf := itU_f hf (bi_e0 c_5)
    clear c_5
    replace hf := hf (fun _ => 0)
    refine lv_iconst (v := -1) hx hb dX0_recall_7 (by decide) ?_
    refine W.widen (k := 8) (n := 244) (Nat.le_of_ble_eq_true rfl) (Nat.le_of_ble_eq_true rfl) ?_
    exact hret _ _ _ _ _ _ _ hf dX0_recall_8 hP hD hS hN

