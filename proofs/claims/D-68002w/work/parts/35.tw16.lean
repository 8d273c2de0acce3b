/-! ===== the model's short calls ===== -/
set_option maxHeartbeats 4000000 in
set_option maxRecDepth 100000 in
theorem m_X4_thrown (G : zE) (l : Launch) (H0 : Heap) (x : Nat) (thr : Int) (g : Sg) (hR : RepT G H0 x thr g) {mc ms : Nat}  : zR G l yX4_thrown (ws_ yX4_thrown cX4_thrown 1 (some FieldType.int)) 0 0 mc ms [.ref x] H0 (fun r _ => r = .int (iI thr)) (Pur H0) := by
  refine zR.start (cc := cX4_thrown) (by decide) (Nat.le_of_ble_eq_true rfl) ?_
  intro p e s m args below meth c Q cx hQ hmn ls hl
  have hx := cx.1
  have hb := cx.2.1
  have hS : va_S (Pur H0) H0 H0 [] := va_S.rf
  have hl : lv_has ls 1 [(0, .ref x)] := hl
  obtain ⟨tp, th, rt, as, pad, cs, lz, hx9, hR2, hm, hok⟩ := hR
  refine lv_aload_n hx hb dX4_thrown_0 rfl (lv_at hl 0 rfl) ?_
  refine z_get cx (k0 := 4) hx9 rfl in_X4 (by decide) q1159 rfl rfl dX4_thrown_1 ?_
  exact z_iret cx hQ rfl rfl rfl hS (by omega) dX4_thrown_4
set_option maxHeartbeats 4000000 in
set_option maxRecDepth 100000 in
theorem m_X4_fault (G : zE) (l : Launch) (H0 : Heap) (x : Nat) (thr : Int) (g : Sg) (hR : RepT G H0 x thr g) {mc ms : Nat}  : zR G l yX4_fault (ws_ yX4_fault cX4_fault 1 (some FieldType.int)) 0 0 mc ms [.ref x] H0 (fun r H1 => r = .int (iI (gFault g)) ∧ RepT G H1 x 0 g) (AT G H0) := by
  refine zR.start (cc := cX4_fault) (by decide) (Nat.le_of_ble_eq_true rfl) ?_
  intro p e s m args below meth c Q cx hQ hmn ls hl
  have hx := cx.1
  have hb := cx.2.1
  have hS : va_S (AT G H0) H0 H0 [] := va_S.rf
  have hl : lv_has ls 1 [(0, .ref x)] := hl
  obtain ⟨tp, th, rt, as, pad, cs, lz, hx9, hR2, hm, hok⟩ := hR
  have hax := AT.x hx9 hm.2.2.2.1
  have hx8 := hx9
  refine lv_aload_n hx hb dX4_fault_0 rfl (lv_at hl 0 rfl) ?_
  refine lv_iconst (v := iI (0)) hx hb dX4_fault_1 rfl ?_
  refine z_put cx (k0 := 4) (vs' := [.ref tp, .int (iI ((gTape g).length : Int)), .int (iI (gFault g)), .int (iI (gTime g)), .int (iI 0), .long (lN (gUse g)), .ref rt, .ref th, .int (iI ↑as.length)]) hx9 hax hS rfl in_X4 tyX4_ok nmX4 (by decide) q1159 rfl rfl  rfl (Nat.le_of_ble_eq_true rfl) ⟨rfl, rfl⟩ dX4_fault_2 (fun H locs hx9 hz9 hq9 hS => ?_)
  have hR2 := hR2.kx hx8 cx.kk hq9
  refine lv_aload_n hx hb dX4_fault_5 rfl (lv_at hl 0 rfl) ?_
  refine z_get cx (k0 := 2) hx9 rfl in_X4 (by decide) q1157 rfl rfl dX4_fault_6 ?_
  exact z_iret cx hQ rfl rfl (⟨rfl, tp, th, rt, as, pad, cs, lz, hx9, hR2, hm, hok⟩) hS (by omega) dX4_fault_9
set_option maxHeartbeats 4000000 in
set_option maxRecDepth 100000 in
theorem m_X4_things (G : zE) (l : Launch) (H0 : Heap) (x : Nat) (thr : Int) (g : Sg) (hR : RepT G H0 x thr g) {mc ms : Nat}  : zR G l yX4_things (ws_ yX4_things cX4_things 1 (some FieldType.int)) 0 0 mc ms [.ref x] H0 (fun r H1 => r = .int (iI ((gTs g).length : Int)) ∧ RepT G H1 x 0 g) (AT G H0) := by
  refine zR.start (cc := cX4_things) (by decide) (Nat.le_of_ble_eq_true rfl) ?_
  intro p e s m args below meth c Q cx hQ hmn ls hl
  have hx := cx.1
  have hb := cx.2.1
  have hS : va_S (AT G H0) H0 H0 [] := va_S.rf
  have hl : lv_has ls 1 [(0, .ref x)] := hl
  obtain ⟨tp, th, rt, as, pad, cs, lz, hx9, hR2, hm, hok⟩ := hR
  have hax := AT.x hx9 hm.2.2.2.1
  have hx8 := hx9
  refine lv_aload_n hx hb dX4_things_0 rfl (lv_at hl 0 rfl) ?_
  refine lv_iconst (v := iI (0)) hx hb dX4_things_1 rfl ?_
  refine z_put cx (k0 := 4) (vs' := [.ref tp, .int (iI ((gTape g).length : Int)), .int (iI (gFault g)), .int (iI (gTime g)), .int (iI 0), .long (lN (gUse g)), .ref rt, .ref th, .int (iI ↑as.length)]) hx9 hax hS rfl in_X4 tyX4_ok nmX4 (by decide) q1159 rfl rfl  rfl (Nat.le_of_ble_eq_true rfl) ⟨rfl, rfl⟩ dX4_things_2 (fun H locs hx9 hz9 hq9 hS => ?_)
  have hR2 := hR2.kx hx8 cx.kk hq9
  refine lv_aload_n hx hb dX4_things_5 rfl (lv_at hl 0 rfl) ?_
  refine z_get cx (k0 := 8) hx9 rfl in_X4 (by decide) q1163 rfl rfl dX4_things_6 ?_
  exact z_iret cx hQ rfl rfl (⟨by rw [hR2.2.2.2.1], tp, th, rt, as, pad, cs, lz, hx9, hR2, hm, hok⟩) hS (by omega) dX4_things_9
