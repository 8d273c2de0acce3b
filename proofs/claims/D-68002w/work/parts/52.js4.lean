/-! ===== the JDK: bytes cut out, strings made ===== -/
set_option maxHeartbeats 4000000 in
set_option maxRecDepth 100000 in
theorem m_J11_checkLength (G : zE) (l : Launch) (H0 : Heap) (a b : Nat) (h : a ≤ b ∧ b ≤ 100000) {mc ms : Nat}  : zV G l yJ11_checkLength (ws_ yJ11_checkLength cJ11_checkLength 2 (none)) 0 0 mc ms [.int (iI ↑a), .int (iI ↑b)] H0 (fun _ => True) (Pur H0) := by
  refine zV.start (cc := cJ11_checkLength) (by decide) (Nat.le_of_ble_eq_true rfl) ?_
  intro p e s m args below meth c Q cx hQ hmn ls hl
  have hx := cx.1
  have hb := cx.2.1
  have hS : va_S (Pur H0) H0 H0 [] := va_S.rf
  have hl : lv_has ls 2 [(0, .int (iI ↑a)), (1, .int (iI ↑b))] := hl
  refine lv_iload_n hx hb dJ11_checkLength_0 rfl (lv_at hl 1 rfl) ?_
  refine lv_iload_n hx hb dJ11_checkLength_1 rfl (lv_at hl 0 rfl) ?_
  refine z_icmp_ge cx (tgt := 37) dJ11_checkLength_2 (by decide) (by omega) (fun c2 => ?_) (fun c2 => (by exfalso; omega))
  exact z_vret cx hQ rfl trivial hS (by omega) dJ11_checkLength_37
set_option maxHeartbeats 4000000 in
set_option maxRecDepth 100000 in
theorem m_J11_copyOfRangeByte (G : zE) (l : Launch) (H0 : Heap) (b f t : Nat) (xs : List Int) (h : Sb G H0 b xs) (hch : chs xs) (hn : xs.length ≤ 100000) (hf : f ≤ t ∧ t ≤ xs.length) {mc ms : Nat} (hmc : 1 ≤ mc) (hms : t - f ≤ ms) : zR G l yJ11_copyOfRangeByte (ws_ yJ11_copyOfRangeByte cJ11_copyOfRangeByte 5 (some (FieldType.array FieldType.byte))) 1 60 mc ms [.ref b, .int (iI ↑f), .int (iI ↑t)] H0 (fun r H1 => ∃ a : Nat, r = .ref a ∧ H0.size ≤ a ∧ Ai G H1 a 100 (sl xs f t)) (Pur H0) := by
  refine zR.start (cc := cJ11_copyOfRangeByte) (by decide) (Nat.le_of_ble_eq_true rfl) ?_
  intro p e s m args below meth c Q cx hQ hmn ls hl
  have hx := cx.1
  have hb := cx.2.1
  have hS : va_S (Pur H0) H0 H0 [] := va_S.rf
  have hl : lv_has ls 5 [(0, .ref b), (1, .int (iI ↑f)), (2, .int (iI ↑t))] := hl
  have hlen := sl_len (xs := xs) (f := f) (t := t) (by omega)
  have hrl : (List.replicate (t - f) (0 : Int)).length = t - f := List.length_replicate
  refine lv_iload_n hx hb dJ11_copyOfRangeByte_0 rfl (lv_at hl 1 rfl) ?_
  refine lv_iload_n hx hb dJ11_copyOfRangeByte_1 rfl (lv_at hl 2 rfl) ?_
  refine z_callSv cx (j := 2) (m_J11_checkLength G l _ f t ⟨hf.1, by omega⟩ (mc := 0) (ms := 0)) (lw_S q311 q312 q46 q313) (by decide +kernel) rfl (rest := []) rfl hl (Nat.le_of_ble_eq_true rfl) (by decide) (by omega) dJ11_copyOfRangeByte_2 hS (fun q h => Nat.le_trans hS.1 h) (fun H locs hp2 hz9 hk9 hS => ?_)
  have hE9 := Ext.of hz9 hk9 (fun q h => h)
  skip
  refine lv_iload_n hx hb dJ11_copyOfRangeByte_5 rfl (lv_at hl 2 rfl) ?_
  refine lv_iload_n hx hb dJ11_copyOfRangeByte_6 rfl (lv_at hl 1 rfl) ?_
  refine z_isub cx (z := ((t - f : Nat) : Int)) dJ11_copyOfRangeByte_7 (by omega) ?_
  refine lv_istore_n (lv' := [(3, .int (iI ((t - f : Nat) : Int))), (0, .ref b), (1, .int (iI ↑f)), (2, .int (iI ↑t))]) hx hb dJ11_copyOfRangeByte_8 rfl hl (by decide) rfl (fun ls hl => ?_)
  refine lv_iload_n hx hb dJ11_copyOfRangeByte_9 rfl (lv_at hl 0 rfl) ?_
  refine z_newB cx hS q101 (t - f) (by omega) (by omega) dJ11_copyOfRangeByte_10 (fun a H ha hga Aa hz9 hE9 hS => ?_)
  refine lv_astore (lv' := [(4, .ref a), (3, .int (iI ((t - f : Nat) : Int))), (0, .ref b), (1, .int (iI ↑f)), (2, .int (iI ↑t))]) hx hb dJ11_copyOfRangeByte_12 hl (by decide) rfl (fun ls hl => ?_)
  refine lv_aload_n hx hb dJ11_copyOfRangeByte_14 rfl (lv_at hl 2 rfl) ?_
  refine lv_iload_n hx hb dJ11_copyOfRangeByte_15 rfl (lv_at hl 3 rfl) ?_
  refine lv_aload hx hb dJ11_copyOfRangeByte_16 (lv_at hl 0 rfl) ?_
  refine lv_iconst (v := iI (0)) hx hb dJ11_copyOfRangeByte_18 rfl ?_
  refine lv_aload_n hx hb dJ11_copyOfRangeByte_19 rfl (lv_at hl 2 rfl) ?_
  refine z_alenS cx (h.ext (Ext.ofS hS)) dJ11_copyOfRangeByte_20 ?_
  refine lv_iload_n hx hb dJ11_copyOfRangeByte_21 rfl (lv_at hl 3 rfl) ?_
  refine z_isub cx (z := ((xs.length - f : Nat) : Int)) dJ11_copyOfRangeByte_22 (by omega) ?_
  refine lv_iload_n hx hb dJ11_copyOfRangeByte_23 rfl (lv_at hl 1 rfl) ?_
  refine z_mmin cx (z := ((t - f : Nat) : Int)) (rest := [.int (iI 0), .ref a, .int (iI ↑f), .ref b]) q239 ⟨by omega, by omega⟩ (by omega) hl (Nat.le_of_ble_eq_true rfl) (by decide) (by omega) dJ11_copyOfRangeByte_24 ?_
  refine z_copyB cx (sp := f) (dp := 0) (w := t - f) (rest := []) h (Nat.not_le.mpr h.lt) Aa hga hS hch ⟨by omega, by omega, by omega⟩ (by omega) q242 hl (Nat.le_of_ble_eq_true rfl) (by decide) dJ11_copyOfRangeByte_27 (fun H locs Aa hS => ?_)
  refine lv_aload hx hb dJ11_copyOfRangeByte_30 (lv_at hl 0 rfl) ?_
  have e9 : cpyL xs (List.replicate (t - f) 0) f 0 (t - f) = sl xs f t := by
    unfold cpyL sl
    rw [List.take_zero, List.nil_append, Nat.zero_add, show (List.replicate (t - f) (0 : Int)).drop (t - f) = [] from List.drop_eq_nil_of_le (by rw [List.length_replicate]; exact Nat.le_refl _), List.append_nil, List.drop_take]
  rw [e9] at Aa
  exact z_aret cx hQ rfl (Or.inr ⟨_, rfl⟩) (⟨a, rfl, hga, Aa⟩) hS (by omega) dJ11_copyOfRangeByte_32
set_option maxHeartbeats 4000000 in
set_option maxRecDepth 100000 in
theorem m_J5_init_3 (G : zE) (l : Launch) (H0 : Heap) (a b : Nat) (h : Ob G H0 a 10 [.null, .int (iI 0)]) {mc ms : Nat}  : zV G l yJ5_init_3 (ws_ yJ5_init_3 cJ5_init_3 3 (none)) 1 20 mc ms [.ref a, .ref b, .int (iI 0)] H0 (fun H1 => Ob G H1 a 10 [.ref b, .int (iI 0)]) (fun q => H0.size ≤ q ∨ q = a) := by
  refine zV.start (cc := cJ5_init_3) (by decide) (Nat.le_of_ble_eq_true rfl) ?_
  intro p e s m args below meth c Q cx hQ hmn ls hl
  have hx := cx.1
  have hb := cx.2.1
  have hS : va_S (fun q => H0.size ≤ q ∨ q = a) H0 H0 [] := va_S.rf
  have hl : lv_has ls 3 [(0, .ref a), (1, .ref b), (2, .int (iI 0))] := hl
  refine lv_aload_n hx hb dJ5_init_3_0 rfl (lv_at hl 0 rfl) ?_
  refine z_obj cx q290 q70 q71 hl (Nat.le_of_ble_eq_true rfl) (by decide) dJ5_init_3_1 ?_
  refine lv_aload_n hx hb dJ5_init_3_4 rfl (lv_at hl 0 rfl) ?_
  refine lv_aload_n hx hb dJ5_init_3_5 rfl (lv_at hl 1 rfl) ?_
  refine z_putF cx hmn (k0 := 0) (vs' := [.ref b, .int (iI 0)]) h (Or.inr rfl) hS rfl in_S5 tyS5_ok nmS5 (by decide) q457 rfl rfl rfl rfl (Nat.le_of_ble_eq_true rfl) ⟨rfl, rfl⟩ dJ5_init_3_6 (fun H locs h hz9 hq9 hS => ?_)
  refine lv_aload_n hx hb dJ5_init_3_9 rfl (lv_at hl 0 rfl) ?_
  refine lv_iload_n hx hb dJ5_init_3_10 rfl (lv_at hl 2 rfl) ?_
  refine z_putF cx hmn (k0 := 1) (vs' := [.ref b, .int (iI 0)]) h (Or.inr rfl) hS rfl in_S5 tyS5_ok nmS5 (by decide) q458 rfl rfl rfl rfl (Nat.le_of_ble_eq_true rfl) ⟨rfl, rfl⟩ dJ5_init_3_11 (fun H locs h hz9 hq9 hS => ?_)
  exact z_vret cx hQ rfl h hS (by omega) dJ5_init_3_14
