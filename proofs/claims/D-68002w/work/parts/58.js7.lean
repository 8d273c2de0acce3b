/-! ===== the JDK: the string builder ===== -/
set_option maxHeartbeats 4000000 in
set_option maxRecDepth 100000 in
theorem m_J3_isLatin1 (G : zE) (l : Launch) (H0 : Heap) (a : Nat) (u0 u2 u3 : Value) (hB : Bh G H0) (h : Ob G H0 a 9 [u0, .int (iI 0), u2, u3]) {mc ms : Nat}  : zR G l yJ3_isLatin1 (ws_ yJ3_isLatin1 cJ3_isLatin1 1 (some FieldType.boolean)) 0 0 mc ms [.ref a] H0 (fun r _ => r = .int (iI 1)) (Pur H0) := by
  refine zR.start (cc := cJ3_isLatin1) (by decide) (Nat.le_of_ble_eq_true rfl) ?_
  intro p e s m args below meth c Q cx hQ hmn ls hl
  have hx := cx.1
  have hb := cx.2.1
  have hS : va_S (Pur H0) H0 H0 [] := va_S.rf
  have hl : lv_has ls 1 [(0, .ref a)] := hl
  refine z_gets cx (st_cs cx.kk) hB q134 dJ3_isLatin1_0 ?_
  refine z_if_eq cx (tgt := 17) dJ3_isLatin1_3 (by decide) (by omega) (fun c3 => (by exfalso; omega)) (fun c3 => ?_)
  refine lv_aload_n hx hb dJ3_isLatin1_6 rfl (lv_at hl 0 rfl) ?_
  refine z_get cx (k0 := 1) h rfl in_J4 (by decide) q144 rfl rfl dJ3_isLatin1_7 ?_
  refine z_if_ne cx (tgt := 17) dJ3_isLatin1_10 (by decide) (by omega) (fun c10 => (by exfalso; omega)) (fun c10 => ?_)
  refine lv_iconst (v := iI (1)) hx hb dJ3_isLatin1_13 rfl ?_
  refine lv_goto (tgt := 18) hx hb dJ3_isLatin1_14 (by decide) ?_
  exact z_iret cx hQ rfl rfl rfl hS (by omega) dJ3_isLatin1_18
set_option maxHeartbeats 4000000 in
set_option maxRecDepth 100000 in
theorem m_J3_newCapacity (G : zE) (l : Launch) (H0 : Heap) (a b n : Nat) (xs : List Int) (u2 u3 : Value) (hB : Bh G H0) (h : Ob G H0 a 9 [.ref b, .int (iI 0), u2, u3]) (h2 : Ai G H0 b 100 xs) (hn : xs.length < n ∧ n ≤ 400000) {mc ms : Nat}  : zR G l yJ3_newCapacity (ws_ yJ3_newCapacity cJ3_newCapacity 6 (some FieldType.int)) 2 44 mc ms [.ref a, .int (iI ↑n)] H0 (fun r _ => r = .int (iI ((xs.length + max (n - xs.length) (xs.length + 2) : Nat) : Int))) (Pur H0) := by
  refine zR.start (cc := cJ3_newCapacity) (by decide) (Nat.le_of_ble_eq_true rfl) ?_
  intro p e s m args below meth c Q cx hQ hmn ls hl
  have hx := cx.1
  have hb := cx.2.1
  have hS : va_S (Pur H0) H0 H0 [] := va_S.rf
  have hl : lv_has ls 6 [(0, .ref a), (1, .int (iI ↑n))] := hl
  have hm : max (n - xs.length) (xs.length + 2) ≤ 400002 := by omega
  refine lv_aload_n hx hb dJ3_newCapacity_0 rfl (lv_at hl 0 rfl) ?_
  refine z_get cx (k0 := 0) h rfl in_J4 (by decide) q143 rfl rfl dJ3_newCapacity_1 ?_
  refine z_alenB cx h2 dJ3_newCapacity_4 ?_
  refine lv_istore_n (lv' := [(2, .int (iI ↑xs.length)), (0, .ref a), (1, .int (iI ↑n))]) hx hb dJ3_newCapacity_5 rfl hl (by decide) rfl (fun ls hl => ?_)
  refine lv_iload_n hx hb dJ3_newCapacity_6 rfl (lv_at hl 2 rfl) ?_
  refine lv_aload_n hx hb dJ3_newCapacity_7 rfl (lv_at hl 1 rfl) ?_
  refine z_get cx (k0 := 1) h rfl in_J4 (by decide) q144 rfl rfl dJ3_newCapacity_8 ?_
  refine z_ishl0 cx dJ3_newCapacity_11 ?_
  refine lv_istore_n (lv' := [(3, .int (iI ↑n)), (2, .int (iI ↑xs.length)), (0, .ref a), (1, .int (iI ↑n))]) hx hb dJ3_newCapacity_12 rfl hl (by decide) rfl (fun ls hl => ?_)
  refine lv_iload_n hx hb dJ3_newCapacity_13 rfl (lv_at hl 0 rfl) ?_
  refine lv_iload_n hx hb dJ3_newCapacity_14 rfl (lv_at hl 1 rfl) ?_
  refine z_isub cx (z := ((n - xs.length : Nat) : Int)) dJ3_newCapacity_15 (by omega) ?_
  refine lv_istore (lv' := [(4, .int (iI ((n - xs.length : Nat) : Int))), (3, .int (iI ↑n)), (2, .int (iI ↑xs.length)), (0, .ref a), (1, .int (iI ↑n))]) hx hb dJ3_newCapacity_16 hl (by decide) rfl (fun ls hl => ?_)
  refine lv_iload_n hx hb dJ3_newCapacity_18 rfl (lv_at hl 2 rfl) ?_
  refine lv_iload hx hb dJ3_newCapacity_19 (lv_at hl 0 rfl) ?_
  refine lv_iload_n hx hb dJ3_newCapacity_21 rfl (lv_at hl 2 rfl) ?_
  refine lv_iconst (v := iI (2)) hx hb dJ3_newCapacity_22 rfl ?_
  refine lv_aload_n hx hb dJ3_newCapacity_23 rfl (lv_at hl 3 rfl) ?_
  refine z_get cx (k0 := 1) h rfl in_J4 (by decide) q144 rfl rfl dJ3_newCapacity_24 ?_
  refine z_ishl0 cx dJ3_newCapacity_27 ?_
  refine z_iadd cx (z := ((xs.length + 2 : Nat) : Int)) dJ3_newCapacity_28 (by omega) ?_
  refine z_callS cx (j := 3) (m_J9_newLength G l _ xs.length (n - xs.length) (xs.length + 2) (by omega) (mc := 0) (ms := 0)) (lw_S q218 q219 q44 q220) (by decide +kernel) rfl (rest := []) rfl hl (Nat.le_of_ble_eq_true rfl) (by decide) (by omega) dJ3_newCapacity_29 hS (fun q h => Nat.le_trans hS.1 h) (fun v29 H locs hp29 hz9 hk9 hS => ?_)
  have hE9 := Ext.of hz9 hk9 (fun q h => h)
  subst hp29
  refine lv_istore (lv' := [(5, .int (iI ((xs.length + max (n - xs.length) (xs.length + 2) : Nat) : Int))), (4, .int (iI ((n - xs.length : Nat) : Int))), (3, .int (iI ↑n)), (2, .int (iI ↑xs.length)), (0, .ref a), (1, .int (iI ↑n))]) hx hb dJ3_newCapacity_32 hl (by decide) rfl (fun ls hl => ?_)
  refine lv_iload hx hb dJ3_newCapacity_34 (lv_at hl 0 rfl) ?_
  refine z_ldc cx (z := 2147483647) q228 (by decide) dJ3_newCapacity_36 ?_
  refine z_icmp_ne cx (tgt := 51) dJ3_newCapacity_38 (by decide) (by omega) (fun c38 => ?_) (fun c38 => (by exfalso; omega))
  refine lv_iload hx hb dJ3_newCapacity_51 (lv_at hl 0 rfl) ?_
  refine lv_aload_n hx hb dJ3_newCapacity_53 rfl (lv_at hl 4 rfl) ?_
  refine z_get cx (k0 := 1) (h.ext (Ext.ofS hS)) rfl in_J4 (by decide) q144 rfl rfl dJ3_newCapacity_54 ?_
  refine z_ishr0 cx dJ3_newCapacity_57 ?_
  exact z_iret cx hQ rfl rfl rfl hS (by omega) dJ3_newCapacity_58
