/-! failures, asked link by link -/
set_option maxRecDepth 100000
set_option maxHeartbeats 4000000
theorem gc_blind {D : va_G} {d : Nat → ClassId} {ci q : Nat} {fs : List Value} : FrameBlind (gcPc D d ci q fs) := fun a U g mk h => ⟨h.1, h.2.1, h.2.2.1.call, h.2.2.2⟩
section
variable {p : Program} {l : Launch} {e : Env} {R : Room} {s : State} {m : MethodId} {args : Array Value} {below : List Frame} {meth : Method} {c : Code} {H : Heap} {locs : List Loc} {cells slots : Nat} {Q : State → Prop}
variable {pc : Nat} {ls : Array Slot} {rest : List Value} {A : Nat → Prop} {cc : ByteArray} {nL : Nat} {D : va_G} {d : Nat → ClassId} {w : va_W}
theorem g_gc1 {C : String} {T : u_T} {N ci q : Nat} {fs : List Value} {r : Option Nat} (S : CallFix p m c cc nL s args lw_all RX0) (hK : KK D d s) (hP : va_P D CL w H) (he : (q, (.inr (ci, fs) : va_E)) ∈ w) (hm : MF H q) (hc : CL[ci]? = some (C, T, N)) (hin : ∀ w ∈ u_ws C T N, w ∈ lw_all) (hT : T 1 = ("java/lang/Throwable", "cause", "Ljava/lang/Throwable;", false)) (hN : 1 < N) (hv : fs[1]? = some (va_rf r)) (hne : r ≠ some q) (hse : Cond.selects C yGC yGC ∈ lw_all) (hsz : ls.size = nL) (hW : (rest.map fun v => v.category).sum ≤ 8) (hfr : 1 ≤ R.frames) (hlo : 20 ≤ R.locals) (hcl : cells ≤ R.cells) (hsl : slots ≤ R.slots) (hdg : decode cc pc = .ok (.invokevirtual 363, 3))
    (kk : W p l e R s m args below meth c H locs cells slots Q (F0 m (pc + 3) ls (va_rf r :: rest))) : W p l e R s m args below meth c H locs cells slots Q (F0 m pc ls (.ref q :: rest)) := by
  obtain ⟨i0, hi0⟩ := List.getElem?_of_mem he
  have hts := S.2.2.2.2
  have hr := gc_runV (e := e) (below := below) (H := H) (locs := locs) (cells := cells) (slots := slots) (meth := meth) (R := R) (n := 0) (As := []) (rest := rest) (b := q) (C := C) (index := 363) (y := yGC) (bytes := prog_37_method_8_code) (maxL := 1) (ret := some (.object "java/lang/Throwable")) (g := F0 m pc ls (.ref q :: rest)) S (gc_met l D d hc hin hT hN hv hne) rfl rfl hfr hlo
    (pay_in hts (lw_good (fun w h => by rcases List.mem_cons.mp h with rfl | h; · exact q1465
                                        · exact h))) List.mem_cons_self (hts _ q1465) (hts _ q113) ⟨by decide, by decide⟩ (fun sig h => by
      have h0 : parseMethodDescriptor yGC.desc = some ⟨[], some (.object "java/lang/Throwable")⟩ := by decide +kernel
      rw [h0] at h
      cases h
      rfl) (hts _ q1455) (hts _ q1456) (hts _ hse)
    ⟨gc_blind, va_recv hK.1 hP hc hi0, fun U hU hWm => ⟨rfl, by rw [hU]; exact wP_iff.mpr (fun x hx => by rcases List.mem_singleton.mp hx with rfl; exact wP_iff.mp hP _ he), hK.warm hWm, by rw [hU]; exact hm⟩⟩
    rfl rfl hsz rfl (by show 2 * 0 + _ ≤ 8; omega) hdg ⟨hcl, hsl⟩
  intro T0 hT0 X
  rcases hr T0 hT0 X with ⟨v, st₀, t, T', L, h0, X', hL, e1, e2, ⟨r', hv', hr', hh⟩, st⟩ | ⟨q9, st₀, t, T', L, E, ce, h0, X', hL, e1, e2, hx, -⟩
  · cases hv'
    subst hr'
    obtain ⟨t2, a1, b1⟩ := kk T' (by rw [e1, hh, h0]) (Stand.forget X' (fun q h => (hL q h).elim))
    exact ⟨t2, st t2 a1, b1⟩
  · exact hx.elim
theorem g_gc {ci q : Nat} {v : Int32} {r : Option Nat} (S : CallFix p m c cc nL s args lw_all RX0) (hK : KK D d s) (hP : va_P D CL w H) (hci : 10 ≤ ci ∧ ci ≤ 15) (he : (q, (.inr (ci, [.int v, va_rf r, .null, .null, .null, .null, .int 0]) : va_E)) ∈ w) (hm : MF H q) (hne : r ≠ some q) (hsz : ls.size = nL) (hW : (rest.map fun v => v.category).sum ≤ 8) (hfr : 1 ≤ R.frames) (hlo : 20 ≤ R.locals) (hcl : cells ≤ R.cells) (hsl : slots ≤ R.slots) (hdg : decode cc pc = .ok (.invokevirtual 363, 3))
    (kk : W p l e R s m args below meth c H locs cells slots Q (F0 m (pc + 3) ls (va_rf r :: rest))) : W p l e R s m args below meth c H locs cells slots Q (F0 m pc ls (.ref q :: rest)) := by
  rcases (show ci = 10 ∨ ci = 11 ∨ ci = 12 ∨ ci = 13 ∨ ci = 14 ∨ ci = 15 by omega) with rfl | rfl | rfl | rfl | rfl | rfl
  · exact g_gc1 S hK hP he hm rfl in_X11 rfl (by decide) rfl hne q1458 hsz hW hfr hlo hcl hsl hdg kk
  · exact g_gc1 S hK hP he hm rfl in_X12 rfl (by decide) rfl hne q1463 hsz hW hfr hlo hcl hsl hdg kk
  · exact g_gc1 S hK hP he hm rfl in_X13 rfl (by decide) rfl hne q1462 hsz hW hfr hlo hcl hsl hdg kk
  · exact g_gc1 S hK hP he hm rfl in_X14 rfl (by decide) rfl hne q1459 hsz hW hfr hlo hcl hsl hdg kk
  · exact g_gc1 S hK hP he hm rfl in_X15 rfl (by decide) rfl hne q1461 hsz hW hfr hlo hcl hsl hdg kk
  · exact g_gc1 S hK hP he hm rfl in_X16 rfl (by decide) rfl hne q1460 hsz hW hfr hlo hcl hsl hdg kk
/-- a failure is a TunerFailure -/
theorem g_inst {ci q : Nat} {fs : List Value} {index : Nat} (S : CallFix p m c cc nL s args lw_all RX0) (hK : KK D d s) (hP : va_P D CL w H) (hci : 10 ≤ ci ∧ ci ≤ 15) (he : (q, (.inr (ci, fs) : va_E)) ∈ w) (hlink : Cond.classLink RX0 index "AntennaTuner$TunerFailure" ∈ lw_all) (hdg : decode cc pc = .ok (.instanceof index, 3))
    (kk : W p l e R s m args below meth c H locs cells slots Q (F0 m (pc + 3) ls (.int 1 :: rest))) : W p l e R s m args below meth c H locs cells slots Q (F0 m pc ls (.ref q :: rest)) := by
  obtain ⟨i0, hi0⟩ := List.getElem?_of_mem he
  rcases (show ci = 10 ∨ ci = 11 ∨ ci = 12 ∨ ci = 13 ∨ ci = 14 ∨ ci = 15 by omega) with rfl | rfl | rfl | rfl | rfl | rfl
  · exact va_instY S.1 S.2.1 S.2.2.2.1 (S.2.2.2.2 _ hlink) (hK.2 _ q2203 rfl) (va_recv hK.1 hP (ci := 10) rfl hi0) hdg kk
  · exact va_instY S.1 S.2.1 S.2.2.2.1 (S.2.2.2.2 _ hlink) (hK.2 _ q2208 rfl) (va_recv hK.1 hP (ci := 11) rfl hi0) hdg kk
  · exact va_instY S.1 S.2.1 S.2.2.2.1 (S.2.2.2.2 _ hlink) (hK.2 _ q2207 rfl) (va_recv hK.1 hP (ci := 12) rfl hi0) hdg kk
  · exact va_instY S.1 S.2.1 S.2.2.2.1 (S.2.2.2.2 _ hlink) (hK.2 _ q2204 rfl) (va_recv hK.1 hP (ci := 13) rfl hi0) hdg kk
  · exact va_instY S.1 S.2.1 S.2.2.2.1 (S.2.2.2.2 _ hlink) (hK.2 _ q2206 rfl) (va_recv hK.1 hP (ci := 14) rfl hi0) hdg kk
  · exact va_instY S.1 S.2.1 S.2.2.2.1 (S.2.2.2.2 _ hlink) (hK.2 _ q2205 rfl) (va_recv hK.1 hP (ci := 15) rfl hi0) hdg kk
theorem g_castF {ci q : Nat} {fs : List Value} {index : Nat} (S : CallFix p m c cc nL s args lw_all RX0) (hK : KK D d s) (hP : va_P D CL w H) (hci : 10 ≤ ci ∧ ci ≤ 15) (he : (q, (.inr (ci, fs) : va_E)) ∈ w) (hlink : Cond.classLink RX0 index "AntennaTuner$TunerFailure" ∈ lw_all) (hdg : decode cc pc = .ok (.checkcast index, 3))
    (kk : W p l e R s m args below meth c H locs cells slots Q (F0 m (pc + 3) ls (.ref q :: rest))) : W p l e R s m args below meth c H locs cells slots Q (F0 m pc ls (.ref q :: rest)) := by
  obtain ⟨i0, hi0⟩ := List.getElem?_of_mem he
  rcases (show ci = 10 ∨ ci = 11 ∨ ci = 12 ∨ ci = 13 ∨ ci = 14 ∨ ci = 15 by omega) with rfl | rfl | rfl | rfl | rfl | rfl
  · exact va_castY S.1 S.2.1 S.2.2.2.1 (S.2.2.2.2 _ hlink) (hK.2 _ q2203 rfl) (va_recv hK.1 hP (ci := 10) rfl hi0) hdg kk
  · exact va_castY S.1 S.2.1 S.2.2.2.1 (S.2.2.2.2 _ hlink) (hK.2 _ q2208 rfl) (va_recv hK.1 hP (ci := 11) rfl hi0) hdg kk
  · exact va_castY S.1 S.2.1 S.2.2.2.1 (S.2.2.2.2 _ hlink) (hK.2 _ q2207 rfl) (va_recv hK.1 hP (ci := 12) rfl hi0) hdg kk
  · exact va_castY S.1 S.2.1 S.2.2.2.1 (S.2.2.2.2 _ hlink) (hK.2 _ q2204 rfl) (va_recv hK.1 hP (ci := 13) rfl hi0) hdg kk
  · exact va_castY S.1 S.2.1 S.2.2.2.1 (S.2.2.2.2 _ hlink) (hK.2 _ q2206 rfl) (va_recv hK.1 hP (ci := 14) rfl hi0) hdg kk
  · exact va_castY S.1 S.2.1 S.2.2.2.1 (S.2.2.2.2 _ hlink) (hK.2 _ q2205 rfl) (va_recv hK.1 hP (ci := 15) rfl hi0) hdg kk
theorem g_instN {index : Nat} (hx : p.tables.exec = Jvm.exec) (hb : c.code = cc) (hdg : decode cc pc = .ok (.instanceof index, 3))
    (kk : W p l e R s m args below meth c H locs cells slots Q (F0 m (pc + 3) ls (.int 0 :: rest))) : W p l e R s m args below meth c H locs cells slots Q (F0 m pc ls (.null :: rest)) := by
  intro T hT X
  obtain ⟨t, a1, b1⟩ := kk T hT X
  exact ⟨t, X.instanceofNull hx (g := F0 m pc ls (.null :: rest)) rfl rfl (by rw [hb]; exact hdg) t a1, b1⟩
end
theorem tX11_kind (l : Launch) (D : va_G) (d : Nat → ClassId) (z : ZT) (o : Nat) : CI l yX11_kind (ws_ yX11_kind cX11_kind 1 (Option.some Jvm.ClassFile.FieldType.int)) (rmc 0 0 0 0) D d z [.ref o] ([]) (2 : Int32) ([]) := by
  refine CI.of2 (own := RX11) rfl (by decide) (Nat.le_of_ble_eq_true rfl) rfl ?_
  intro p e s m args below meth c A Q ls S hin hK hP hD hZ hS hA hl hret0
  refine lv_iconst (v := 2) S.1 S.2.1 dX11_kind_0 (by decide) ?_
  exact hret0 _ _ _ _ dX11_kind_1 hP hD hS
theorem tX12_kind (l : Launch) (D : va_G) (d : Nat → ClassId) (z : ZT) (o : Nat) : CI l yX12_kind (ws_ yX12_kind cX12_kind 1 (Option.some Jvm.ClassFile.FieldType.int)) (rmc 0 0 0 0) D d z [.ref o] ([]) (1 : Int32) ([]) := by
  refine CI.of2 (own := RX12) rfl (by decide) (Nat.le_of_ble_eq_true rfl) rfl ?_
  intro p e s m args below meth c A Q ls S hin hK hP hD hZ hS hA hl hret0
  refine lv_iconst (v := 1) S.1 S.2.1 dX12_kind_0 (by decide) ?_
  exact hret0 _ _ _ _ dX12_kind_1 hP hD hS
theorem tX13_kind (l : Launch) (D : va_G) (d : Nat → ClassId) (z : ZT) (o : Nat) : CI l yX13_kind (ws_ yX13_kind cX13_kind 1 (Option.some Jvm.ClassFile.FieldType.int)) (rmc 0 0 0 0) D d z [.ref o] ([]) (3 : Int32) ([]) := by
  refine CI.of2 (own := RX13) rfl (by decide) (Nat.le_of_ble_eq_true rfl) rfl ?_
  intro p e s m args below meth c A Q ls S hin hK hP hD hZ hS hA hl hret0
  refine lv_iconst (v := 3) S.1 S.2.1 dX13_kind_0 (by decide) ?_
  exact hret0 _ _ _ _ dX13_kind_1 hP hD hS
theorem tX14_kind (l : Launch) (D : va_G) (d : Nat → ClassId) (z : ZT) (o : Nat) : CI l yX14_kind (ws_ yX14_kind cX14_kind 1 (Option.some Jvm.ClassFile.FieldType.int)) (rmc 0 0 0 0) D d z [.ref o] ([]) (4 : Int32) ([]) := by
  refine CI.of2 (own := RX14) rfl (by decide) (Nat.le_of_ble_eq_true rfl) rfl ?_
  intro p e s m args below meth c A Q ls S hin hK hP hD hZ hS hA hl hret0
  refine lv_iconst (v := 4) S.1 S.2.1 dX14_kind_0 (by decide) ?_
  exact hret0 _ _ _ _ dX14_kind_1 hP hD hS
theorem tX15_kind (l : Launch) (D : va_G) (d : Nat → ClassId) (z : ZT) (o : Nat) : CI l yX15_kind (ws_ yX15_kind cX15_kind 1 (Option.some Jvm.ClassFile.FieldType.int)) (rmc 0 0 0 0) D d z [.ref o] ([]) (5 : Int32) ([]) := by
  refine CI.of2 (own := RX15) rfl (by decide) (Nat.le_of_ble_eq_true rfl) rfl ?_
  intro p e s m args below meth c A Q ls S hin hK hP hD hZ hS hA hl hret0
  refine lv_iconst (v := 5) S.1 S.2.1 dX15_kind_0 (by decide) ?_
  exact hret0 _ _ _ _ dX15_kind_1 hP hD hS
theorem tX16_kind (l : Launch) (D : va_G) (d : Nat → ClassId) (z : ZT) (o : Nat) : CI l yX16_kind (ws_ yX16_kind cX16_kind 1 (Option.some Jvm.ClassFile.FieldType.int)) (rmc 0 0 0 0) D d z [.ref o] ([]) (6 : Int32) ([]) := by
  refine CI.of2 (own := RX16) rfl (by decide) (Nat.le_of_ble_eq_true rfl) rfl ?_
  intro p e s m args below meth c A Q ls S hin hK hP hD hZ hS hA hl hret0
  refine lv_bipush (v := 6) S.1 S.2.1 dX16_kind_0 (by decide) ?_
  exact hret0 _ _ _ _ dX16_kind_2 hP hD hS
def knd (ci : Nat) : Int32 := if ci = 10 then 2 else if ci = 11 then 1 else if ci = 12 then 3 else if ci = 13 then 4 else if ci = 14 then 5 else 6
section
variable {p : Program} {l : Launch} {e : Env} {R : Room} {s : State} {m : MethodId} {args : Array Value} {below : List Frame} {meth : Method} {c : Code} {H : Heap} {locs : List Loc} {cells slots : Nat} {Q : State → Prop}
variable {pc : Nat} {ls : Array Slot} {rest : List Value} {A : Nat → Prop} {cc : ByteArray} {nL : Nat} {D : va_G} {d : Nat → ClassId} {z : ZT} {w : va_W}
theorem g_kind {ci q : Nat} {fs : List Value} (S : CallFix p m c cc nL s args lw_all RX0) (hK : KK D d s) (hP : va_P D CL w H) (hD : va_D A w) (hZ : ZZ z A s s.heap) (hS : va_S A s.heap H locs) (hA : ∀ q, s.heap.size ≤ q → A q) (hci : 10 ≤ ci ∧ ci ≤ 15) (he : (q, (.inr (ci, fs) : va_E)) ∈ w) (hsz : ls.size = nL) (hW : (rest.map fun v => v.category).sum ≤ 8) (hfr : 1 ≤ R.frames) (hlo : 20 ≤ R.locals) (hcl : cells ≤ R.cells) (hsl : slots ≤ R.slots) (hdg : decode cc pc = .ok (.invokevirtual 375, 3))
    (kk : ∀ (H1 : Heap) (locs1 : List Loc), va_P D CL w H1 → va_D A w → va_S A s.heap H1 locs1 → W p l e R s m args below meth c H1 locs1 cells slots Q (F0 m (pc + 3) ls (.int (knd ci) :: rest))) : W p l e R s m args below meth c H locs cells slots Q (F0 m pc ls (.ref q :: rest)) := by
  obtain ⟨i0, hi0⟩ := List.getElem?_of_mem he
  have hts := S.2.2.2.2
  have hdec : va_Decl s ⟨"AntennaTuner$TunerFailure", "kind", "()I"⟩ := Cond.declares_spec (va_Nw.use (A := args) rfl (hK.2 _ q1476 rfl))
  rcases (show ci = 10 ∨ ci = 11 ∨ ci = 12 ∨ ci = 13 ∨ ci = 14 ∨ ci = 15 by omega) with rfl | rfl | rfl | rfl | rfl | rfl
  · refine run_i (w := []) (tl := w) (wr := []) (w' := []) (va_runU (As := []) (rest := rest) S (tX11_kind l D d z q _) (owner := "AntennaTuner$TunerFailure") (x := ⟨"AntennaTuner$TunerFailure", "kind", "()I"⟩) (C := "AntennaTuner$EndOfRange") ⟨⟨rfl, rfl, hfr, hlo, pay_in hts (lw_meth q1480), List.mem_cons_self⟩, hts _ q1480, hts _ q123, ⟨by decide, by decide⟩, (fun sig h => by
      have h0 : parseMethodDescriptor "()I" = some ⟨[], some .int⟩ := by decide +kernel
      rw [h0] at h
      cases h
      rfl), hts _ q1475, hts _ q1477, hdec, hts _ q1478, hts _ q1479⟩ ⟨Pw.blind, va_recv hK.1 hP (ci := 10) rfl hi0, fun U hU hWm => Pw.cut (w := []) (tl := w) hK hP hD hZ hS hA [] rfl rfl hU hWm⟩ rfl rfl hsz rfl (by show 2 * 0 + _ ≤ 8; omega) hdg ⟨hcl, hsl⟩) hP hD hS hA [] [] [] rfl rfl rfl rfl (by decide) rfl rfl kk
  · refine run_i (w := []) (tl := w) (wr := []) (w' := []) (va_runU (As := []) (rest := rest) S (tX12_kind l D d z q _) (owner := "AntennaTuner$TunerFailure") (x := ⟨"AntennaTuner$TunerFailure", "kind", "()I"⟩) (C := "AntennaTuner$SearchFailure") ⟨⟨rfl, rfl, hfr, hlo, pay_in hts (lw_meth q1495), List.mem_cons_self⟩, hts _ q1495, hts _ q124, ⟨by decide, by decide⟩, (fun sig h => by
      have h0 : parseMethodDescriptor "()I" = some ⟨[], some .int⟩ := by decide +kernel
      rw [h0] at h
      cases h
      rfl), hts _ q1475, hts _ q1477, hdec, hts _ q1493, hts _ q1494⟩ ⟨Pw.blind, va_recv hK.1 hP (ci := 11) rfl hi0, fun U hU hWm => Pw.cut (w := []) (tl := w) hK hP hD hZ hS hA [] rfl rfl hU hWm⟩ rfl rfl hsz rfl (by show 2 * 0 + _ ≤ 8; omega) hdg ⟨hcl, hsl⟩) hP hD hS hA [] [] [] rfl rfl rfl rfl (by decide) rfl rfl kk
  · refine run_i (w := []) (tl := w) (wr := []) (w' := []) (va_runU (As := []) (rest := rest) S (tX13_kind l D d z q _) (owner := "AntennaTuner$TunerFailure") (x := ⟨"AntennaTuner$TunerFailure", "kind", "()I"⟩) (C := "AntennaTuner$Overload") ⟨⟨rfl, rfl, hfr, hlo, pay_in hts (lw_meth q1492), List.mem_cons_self⟩, hts _ q1492, hts _ q125, ⟨by decide, by decide⟩, (fun sig h => by
      have h0 : parseMethodDescriptor "()I" = some ⟨[], some .int⟩ := by decide +kernel
      rw [h0] at h
      cases h
      rfl), hts _ q1475, hts _ q1477, hdec, hts _ q1490, hts _ q1491⟩ ⟨Pw.blind, va_recv hK.1 hP (ci := 12) rfl hi0, fun U hU hWm => Pw.cut (w := []) (tl := w) hK hP hD hZ hS hA [] rfl rfl hU hWm⟩ rfl rfl hsz rfl (by show 2 * 0 + _ ≤ 8; omega) hdg ⟨hcl, hsl⟩) hP hD hS hA [] [] [] rfl rfl rfl rfl (by decide) rfl rfl kk
  · refine run_i (w := []) (tl := w) (wr := []) (w' := []) (va_runU (As := []) (rest := rest) S (tX14_kind l D d z q _) (owner := "AntennaTuner$TunerFailure") (x := ⟨"AntennaTuner$TunerFailure", "kind", "()I"⟩) (C := "AntennaTuner$LossyCoil") ⟨⟨rfl, rfl, hfr, hlo, pay_in hts (lw_meth q1483), List.mem_cons_self⟩, hts _ q1483, hts _ q126, ⟨by decide, by decide⟩, (fun sig h => by
      have h0 : parseMethodDescriptor "()I" = some ⟨[], some .int⟩ := by decide +kernel
      rw [h0] at h
      cases h
      rfl), hts _ q1475, hts _ q1477, hdec, hts _ q1481, hts _ q1482⟩ ⟨Pw.blind, va_recv hK.1 hP (ci := 13) rfl hi0, fun U hU hWm => Pw.cut (w := []) (tl := w) hK hP hD hZ hS hA [] rfl rfl hU hWm⟩ rfl rfl hsz rfl (by show 2 * 0 + _ ≤ 8; omega) hdg ⟨hcl, hsl⟩) hP hD hS hA [] [] [] rfl rfl rfl rfl (by decide) rfl rfl kk
  · refine run_i (w := []) (tl := w) (wr := []) (w' := []) (va_runU (As := []) (rest := rest) S (tX15_kind l D d z q _) (owner := "AntennaTuner$TunerFailure") (x := ⟨"AntennaTuner$TunerFailure", "kind", "()I"⟩) (C := "AntennaTuner$NothingStored") ⟨⟨rfl, rfl, hfr, hlo, pay_in hts (lw_meth q1489), List.mem_cons_self⟩, hts _ q1489, hts _ q127, ⟨by decide, by decide⟩, (fun sig h => by
      have h0 : parseMethodDescriptor "()I" = some ⟨[], some .int⟩ := by decide +kernel
      rw [h0] at h
      cases h
      rfl), hts _ q1475, hts _ q1477, hdec, hts _ q1487, hts _ q1488⟩ ⟨Pw.blind, va_recv hK.1 hP (ci := 14) rfl hi0, fun U hU hWm => Pw.cut (w := []) (tl := w) hK hP hD hZ hS hA [] rfl rfl hU hWm⟩ rfl rfl hsz rfl (by show 2 * 0 + _ ≤ 8; omega) hdg ⟨hcl, hsl⟩) hP hD hS hA [] [] [] rfl rfl rfl rfl (by decide) rfl rfl kk
  · refine run_i (w := []) (tl := w) (wr := []) (w' := []) (va_runU (As := []) (rest := rest) S (tX16_kind l D d z q _) (owner := "AntennaTuner$TunerFailure") (x := ⟨"AntennaTuner$TunerFailure", "kind", "()I"⟩) (C := "AntennaTuner$NoBand") ⟨⟨rfl, rfl, hfr, hlo, pay_in hts (lw_meth q1486), List.mem_cons_self⟩, hts _ q1486, hts _ q128, ⟨by decide, by decide⟩, (fun sig h => by
      have h0 : parseMethodDescriptor "()I" = some ⟨[], some .int⟩ := by decide +kernel
      rw [h0] at h
      cases h
      rfl), hts _ q1475, hts _ q1477, hdec, hts _ q1484, hts _ q1485⟩ ⟨Pw.blind, va_recv hK.1 hP (ci := 15) rfl hi0, fun U hU hWm => Pw.cut (w := []) (tl := w) hK hP hD hZ hS hA [] rfl rfl hU hWm⟩ rfl rfl hsz rfl (by show 2 * 0 + _ ≤ 8; omega) hdg ⟨hcl, hsl⟩) hP hD hS hA [] [] [] rfl rfl rfl rfl (by decide) rfl rfl kk
end
