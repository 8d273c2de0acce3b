/-! ===== the JDK: arrays that grow ===== -/
set_option maxHeartbeats 4000000 in
set_option maxRecDepth 100000 in
theorem m_J9_newLength (G : zE) (l : Launch) (H0 : Heap) (a b d : Nat) (h : a ≤ 1000000 ∧ b ≤ 1000000 ∧ d ≤ 1000000 ∧ 1 ≤ b + d) {mc ms : Nat}  : zR G l yJ9_newLength (ws_ yJ9_newLength cJ9_newLength 4 (some FieldType.int)) 1 21 mc ms [.int (iI ↑a), .int (iI ↑b), .int (iI ↑d)] H0 (fun r _ => r = .int (iI ((a + max b d : Nat) : Int))) (Pur H0) := by
  refine zR.start (cc := cJ9_newLength) (by decide) (Nat.le_of_ble_eq_true rfl) ?_
  intro p e s m args below meth c Q cx hQ hmn ls hl
  have hx := cx.1
  have hb := cx.2.1
  have hS : va_S (Pur H0) H0 H0 [] := va_S.rf
  have hl : lv_has ls 4 [(0, .int (iI ↑a)), (1, .int (iI ↑b)), (2, .int (iI ↑d))] := hl
  have hm := Nat.le_max_left b d
  have hm2 := Nat.le_max_right b d
  have hm3 : max b d = b ∨ max b d = d := by omega
  refine lv_iload_n hx hb dJ9_newLength_0 rfl (lv_at hl 0 rfl) ?_
  refine lv_iload_n hx hb dJ9_newLength_1 rfl (lv_at hl 1 rfl) ?_
  refine lv_iload_n hx hb dJ9_newLength_2 rfl (lv_at hl 2 rfl) ?_
  refine z_mmax cx (z := ((max b d : Nat) : Int)) (rest := [.int (iI ↑a)]) q221 ⟨by omega, by omega⟩ (by omega) hl (Nat.le_of_ble_eq_true rfl) (by decide) (by omega) dJ9_newLength_3 ?_
  refine z_iadd cx (z := ((a + max b d : Nat) : Int)) dJ9_newLength_6 (by omega) ?_
  refine lv_istore_n (lv' := [(3, .int (iI ((a + max b d : Nat) : Int))), (0, .int (iI ↑a)), (1, .int (iI ↑b)), (2, .int (iI ↑d))]) hx hb dJ9_newLength_7 rfl hl (by decide) rfl (fun ls hl => ?_)
  refine lv_iconst (v := iI (0)) hx hb dJ9_newLength_8 rfl ?_
  refine lv_iload_n hx hb dJ9_newLength_9 rfl (lv_at hl 0 rfl) ?_
  refine z_icmp_ge cx (tgt := 21) dJ9_newLength_10 (by decide) (by omega) (fun c10 => (by exfalso; omega)) (fun c10 => ?_)
  refine lv_iload_n hx hb dJ9_newLength_13 rfl (lv_at hl 0 rfl) ?_
  refine z_ldc cx (z := 2147483639) q224 (by decide) dJ9_newLength_14 ?_
  refine z_icmp_gt cx (tgt := 21) dJ9_newLength_16 (by decide) (by omega) (fun c16 => (by exfalso; omega)) (fun c16 => ?_)
  refine lv_iload_n hx hb dJ9_newLength_19 rfl (lv_at hl 0 rfl) ?_
  exact z_iret cx hQ rfl rfl rfl hS (by omega) dJ9_newLength_20
set_option maxHeartbeats 4000000 in
set_option maxRecDepth 100000 in
theorem m_J11_copyOf (G : zE) (l : Launch) (H0 : Heap) (b n : Nat) (xs : List Int) (h : Sb G H0 b xs) (hch : chs xs) (hn : xs.length < n ∧ n ≤ 100000) {mc ms : Nat} (hmc : 1 ≤ mc) (hms : n ≤ ms) : zR G l yJ11_copyOf (ws_ yJ11_copyOf cJ11_copyOf 3 (some (FieldType.array FieldType.byte))) 1 60 mc ms [.ref b, .int (iI ↑n)] H0 (fun r H1 => ∃ a : Nat, r = .ref a ∧ H0.size ≤ a ∧ Ai G H1 a 100 (xs ++ List.replicate (n - xs.length) 0)) (Pur H0) := by
  refine zR.start (cc := cJ11_copyOf) (by decide) (Nat.le_of_ble_eq_true rfl) ?_
  intro p e s m args below meth c Q cx hQ hmn ls hl
  have hx := cx.1
  have hb := cx.2.1
  have hS : va_S (Pur H0) H0 H0 [] := va_S.rf
  have hl : lv_has ls 3 [(0, .ref b), (1, .int (iI ↑n))] := hl
  have hrl : (List.replicate n (0 : Int)).length = n := List.length_replicate
  refine lv_iload_n hx hb dJ11_copyOf_0 rfl (lv_at hl 1 rfl) ?_
  refine lv_aload_n hx hb dJ11_copyOf_1 rfl (lv_at hl 0 rfl) ?_
  refine z_alenS cx h dJ11_copyOf_2 ?_
  refine z_icmp_ne cx (tgt := 14) dJ11_copyOf_3 (by decide) (by omega) (fun c3 => ?_) (fun c3 => (by exfalso; omega))
  refine lv_iload_n hx hb dJ11_copyOf_14 rfl (lv_at hl 1 rfl) ?_
  refine z_newB cx hS q101 (n) (by omega) (by omega) dJ11_copyOf_15 (fun a H ha hga Aa hz9 hE9 hS => ?_)
  refine lv_astore_n (lv' := [(2, .ref a), (0, .ref b), (1, .int (iI ↑n))]) hx hb dJ11_copyOf_17 rfl hl (by decide) rfl (fun ls hl => ?_)
  refine lv_aload_n hx hb dJ11_copyOf_18 rfl (lv_at hl 1 rfl) ?_
  refine lv_iconst (v := iI (0)) hx hb dJ11_copyOf_19 rfl ?_
  refine lv_aload_n hx hb dJ11_copyOf_20 rfl (lv_at hl 0 rfl) ?_
  refine lv_iconst (v := iI (0)) hx hb dJ11_copyOf_21 rfl ?_
  refine lv_aload_n hx hb dJ11_copyOf_22 rfl (lv_at hl 1 rfl) ?_
  refine z_alenS cx (h.ext (Ext.ofS hS)) dJ11_copyOf_23 ?_
  refine lv_iload_n hx hb dJ11_copyOf_24 rfl (lv_at hl 2 rfl) ?_
  refine z_mmin cx (z := (xs.length : Int)) (rest := [.int (iI 0), .ref a, .int (iI 0), .ref b]) q239 ⟨by omega, by omega⟩ (by omega) hl (Nat.le_of_ble_eq_true rfl) (by decide) (by omega) dJ11_copyOf_25 ?_
  refine z_copyB cx (sp := 0) (dp := 0) (w := xs.length) (rest := []) h (Nat.not_le.mpr h.lt) Aa hga hS hch ⟨by omega, by omega, by omega⟩ (by omega) q242 hl (Nat.le_of_ble_eq_true rfl) (by decide) dJ11_copyOf_28 (fun H locs Aa hS => ?_)
  refine lv_aload_n hx hb dJ11_copyOf_31 rfl (lv_at hl 0 rfl) ?_
  have e9 : cpyL xs (List.replicate n 0) 0 0 xs.length = xs ++ List.replicate (n - xs.length) 0 := by
    unfold cpyL
    rw [List.take_zero, List.nil_append, Nat.zero_add, List.drop_zero, List.take_length, List.drop_replicate]
  rw [e9] at Aa
  exact z_aret cx hQ rfl (Or.inr ⟨_, rfl⟩) (⟨a, rfl, hga, Aa⟩) hS (by omega) dJ11_copyOf_32
