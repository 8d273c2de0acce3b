/-! ===== the JDK: String, for reading ===== -/
set_option maxHeartbeats 4000000 in
set_option maxRecDepth 100000 in
theorem m_J5_coder (G : zE) (l : Launch) (H0 : Heap) (a b : Nat) (hB : Bh G H0) (h : Ss G H0 a b) {mc ms : Nat}  : zR G l yJ5_coder (ws_ yJ5_coder cJ5_coder 1 (some FieldType.byte)) 0 0 mc ms [.ref a] H0 (fun r _ => r = .int (iI 0)) (Pur H0) := by
  refine zR.start (cc := cJ5_coder) (by decide) (Nat.le_of_ble_eq_true rfl) ?_
  intro p e s m args below meth c Q cx hQ hmn ls hl
  have hx := cx.1
  have hb := cx.2.1
  have hS : va_S (Pur H0) H0 H0 [] := va_S.rf
  have hl : lv_has ls 1 [(0, .ref a)] := hl
  refine z_gets cx (st_cs cx.kk) hB q164 dJ5_coder_0 ?_
  refine z_if_eq cx (tgt := 13) dJ5_coder_3 (by decide) (by omega) (fun c3 => (by exfalso; omega)) (fun c3 => ?_)
  refine lv_aload_n hx hb dJ5_coder_6 rfl (lv_at hl 0 rfl) ?_
  refine z_getSc cx h q458 dJ5_coder_7 ?_
  refine lv_goto (tgt := 14) hx hb dJ5_coder_10 (by decide) ?_
  exact z_iret cx hQ rfl rfl rfl hS (by omega) dJ5_coder_14
set_option maxHeartbeats 4000000 in
set_option maxRecDepth 100000 in
theorem m_J5_isLatin1 (G : zE) (l : Launch) (H0 : Heap) (a b : Nat) (hB : Bh G H0) (h : Ss G H0 a b) {mc ms : Nat}  : zR G l yJ5_isLatin1 (ws_ yJ5_isLatin1 cJ5_isLatin1 1 (some FieldType.boolean)) 0 0 mc ms [.ref a] H0 (fun r _ => r = .int (iI 1)) (Pur H0) := by
  refine zR.start (cc := cJ5_isLatin1) (by decide) (Nat.le_of_ble_eq_true rfl) ?_
  intro p e s m args below meth c Q cx hQ hmn ls hl
  have hx := cx.1
  have hb := cx.2.1
  have hS : va_S (Pur H0) H0 H0 [] := va_S.rf
  have hl : lv_has ls 1 [(0, .ref a)] := hl
  refine z_gets cx (st_cs cx.kk) hB q164 dJ5_isLatin1_0 ?_
  refine z_if_eq cx (tgt := 17) dJ5_isLatin1_3 (by decide) (by omega) (fun c3 => (by exfalso; omega)) (fun c3 => ?_)
  refine lv_aload_n hx hb dJ5_isLatin1_6 rfl (lv_at hl 0 rfl) ?_
  refine z_getSc cx h q458 dJ5_isLatin1_7 ?_
  refine z_if_ne cx (tgt := 17) dJ5_isLatin1_10 (by decide) (by omega) (fun c10 => (by exfalso; omega)) (fun c10 => ?_)
  refine lv_iconst (v := iI (1)) hx hb dJ5_isLatin1_13 rfl ?_
  refine lv_goto (tgt := 18) hx hb dJ5_isLatin1_14 (by decide) ?_
  exact z_iret cx hQ rfl rfl rfl hS (by omega) dJ5_isLatin1_18
set_option maxHeartbeats 4000000 in
set_option maxRecDepth 100000 in
theorem m_J5_length (G : zE) (l : Launch) (H0 : Heap) (P : Nat → Prop) (a : Nat) (xs : List Int) (hB : Bh G H0) (h : St G P H0 a xs) {mc ms : Nat}  : zR G l yJ5_length (ws_ yJ5_length cJ5_length 1 (some FieldType.int)) 1 20 mc ms [.ref a] H0 (fun r _ => r = .int (iI (xs.length : Int))) (Pur H0) := by
  refine zR.start (cc := cJ5_length) (by decide) (Nat.le_of_ble_eq_true rfl) ?_
  intro p e s m args below meth c Q cx hQ hmn ls hl
  have hx := cx.1
  have hb := cx.2.1
  have hS : va_S (Pur H0) H0 H0 [] := va_S.rf
  have hl : lv_has ls 1 [(0, .ref a)] := hl
  obtain ⟨-, hch, hn, b, -, hs, hb9⟩ := h
  refine lv_aload_n hx hb dJ5_length_0 rfl (lv_at hl 0 rfl) ?_
  refine z_getSv cx hs q457 dJ5_length_1 ?_
  refine z_alenS cx hb9 dJ5_length_4 ?_
  refine lv_aload_n hx hb dJ5_length_5 rfl (lv_at hl 0 rfl) ?_
  refine z_callV cx (j := 0) (m_J5_coder G l _ a b (hB.ext (Ext.ofS hS)) (hs.ext (Ext.ofS hS)) (mc := 0) (ms := 0)) (lw_V q160 q161 q162 q40 q163) (zrecvS cx hs) (by decide +kernel) rfl (rest := [.int (iI ↑xs.length)]) rfl hl (Nat.le_of_ble_eq_true rfl) (by decide) (by omega) dJ5_length_6 hS (fun q h => Nat.le_trans hS.1 h) (fun v6 H locs hp6 hz9 hk9 hS => ?_)
  have hE9 := Ext.of hz9 hk9 (fun q h => h)
  subst hp6
  refine z_ishr0 cx dJ5_length_9 ?_
  exact z_iret cx hQ rfl rfl rfl hS (by omega) dJ5_length_10
set_option maxHeartbeats 4000000 in
set_option maxRecDepth 100000 in
theorem m_J8_checkIndex (G : zE) (l : Launch) (H0 : Heap) (i n : Nat) (r : Option Nat) (h : i < n ∧ n ≤ 2000000000) {mc ms : Nat}  : zR G l yJ8_checkIndex (ws_ yJ8_checkIndex cJ8_checkIndex 3 (some FieldType.int)) 0 0 mc ms [.int (iI ↑i), .int (iI ↑n), va_rf r] H0 (fun r _ => r = .int (iI (i : Int))) (Pur H0) := by
  refine zR.start (cc := cJ8_checkIndex) (by decide) (by cases r <;> exact (Nat.le_of_ble_eq_true rfl)) ?_
  intro p e s m args below meth c Q cx hQ hmn ls hl
  have hx := cx.1
  have hb := cx.2.1
  have hS : va_S (Pur H0) H0 H0 [] := va_S.rf
  have hl : lv_has ls 3 [(0, .int (iI ↑i)), (1, .int (iI ↑n)), (2, va_rf r)] := (by cases r <;> exact hl)
  refine lv_iload_n hx hb dJ8_checkIndex_0 rfl (lv_at hl 0 rfl) ?_
  refine z_if_lt cx (tgt := 9) dJ8_checkIndex_1 (by decide) (by omega) (fun c1 => (by exfalso; omega)) (fun c1 => ?_)
  refine lv_iload_n hx hb dJ8_checkIndex_4 rfl (lv_at hl 0 rfl) ?_
  refine lv_iload_n hx hb dJ8_checkIndex_5 rfl (lv_at hl 1 rfl) ?_
  refine z_icmp_lt cx (tgt := 16) dJ8_checkIndex_6 (by decide) (by omega) (fun c6 => ?_) (fun c6 => (by exfalso; omega))
  refine lv_iload_n hx hb dJ8_checkIndex_16 rfl (lv_at hl 0 rfl) ?_
  exact z_iret cx hQ rfl rfl rfl hS (by omega) dJ8_checkIndex_17
set_option maxHeartbeats 4000000 in
set_option maxRecDepth 100000 in
theorem m_J5_checkIndex (G : zE) (l : Launch) (H0 : Heap) (i n : Nat) (hB : Bh G H0) (h : i < n ∧ n ≤ 2000000000) {mc ms : Nat}  : zV G l yJ5_checkIndex (ws_ yJ5_checkIndex cJ5_checkIndex 2 (none)) 1 22 mc ms [.int (iI ↑i), .int (iI ↑n)] H0 (fun _ => True) (Pur H0) := by
  refine zV.start (cc := cJ5_checkIndex) (by decide) (Nat.le_of_ble_eq_true rfl) ?_
  intro p e s m args below meth c Q cx hQ hmn ls hl
  have hx := cx.1
  have hb := cx.2.1
  have hS : va_S (Pur H0) H0 H0 [] := va_S.rf
  have hl : lv_has ls 2 [(0, .int (iI ↑i)), (1, .int (iI ↑n))] := hl
  refine lv_iload_n hx hb dJ5_checkIndex_0 rfl (lv_at hl 0 rfl) ?_
  refine lv_iload_n hx hb dJ5_checkIndex_1 rfl (lv_at hl 1 rfl) ?_
  obtain ⟨sio, hsio⟩ := st_si cx.kk
  refine z_gets cx hsio hB q179 dJ5_checkIndex_2 ?_
  refine z_callS cx (j := 3) (m_J8_checkIndex G l _ i n sio h (mc := 0) (ms := 0)) (lw_S q181 q182 q43 q183) (by decide +kernel) rfl (rest := []) rfl hl (Nat.le_of_ble_eq_true rfl) (by decide) (by omega) dJ5_checkIndex_5 hS (fun q h => Nat.le_trans hS.1 h) (fun v5 H locs hp5 hz9 hk9 hS => ?_)
  have hE9 := Ext.of hz9 hk9 (fun q h => h)
  subst hp5
  refine lv_pop hx hb dJ5_checkIndex_8 rfl ?_
  exact z_vret cx hQ rfl trivial hS (by omega) dJ5_checkIndex_9
