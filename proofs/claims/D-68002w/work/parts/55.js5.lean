/-! ===== the JDK: substrings ===== -/
set_option maxHeartbeats 4000000 in
set_option maxRecDepth 100000 in
theorem m_J8_checkFromToIndex (G : zE) (l : Launch) (H0 : Heap) (f t n : Nat) (r : Option Nat) (h : f ≤ t ∧ t ≤ n ∧ n ≤ 100000) {mc ms : Nat}  : zR G l yJ8_checkFromToIndex (ws_ yJ8_checkFromToIndex cJ8_checkFromToIndex 4 (some FieldType.int)) 0 0 mc ms [.int (iI ↑f), .int (iI ↑t), .int (iI ↑n), va_rf r] H0 (fun r _ => r = .int (iI (f : Int))) (Pur H0) := by
  refine zR.start (cc := cJ8_checkFromToIndex) (by decide) (by cases r <;> exact (Nat.le_of_ble_eq_true rfl)) ?_
  intro p e s m args below meth c Q cx hQ hmn ls hl
  have hx := cx.1
  have hb := cx.2.1
  have hS : va_S (Pur H0) H0 H0 [] := va_S.rf
  have hl : lv_has ls 4 [(0, .int (iI ↑f)), (1, .int (iI ↑t)), (2, .int (iI ↑n)), (3, va_rf r)] := (by cases r <;> exact hl)
  refine lv_iload_n hx hb dJ8_checkFromToIndex_0 rfl (lv_at hl 0 rfl) ?_
  refine z_if_lt cx (tgt := 14) dJ8_checkFromToIndex_1 (by decide) (by omega) (fun c1 => (by exfalso; omega)) (fun c1 => ?_)
  refine lv_iload_n hx hb dJ8_checkFromToIndex_4 rfl (lv_at hl 0 rfl) ?_
  refine lv_iload_n hx hb dJ8_checkFromToIndex_5 rfl (lv_at hl 1 rfl) ?_
  refine z_icmp_gt cx (tgt := 14) dJ8_checkFromToIndex_6 (by decide) (by omega) (fun c6 => (by exfalso; omega)) (fun c6 => ?_)
  refine lv_iload_n hx hb dJ8_checkFromToIndex_9 rfl (lv_at hl 1 rfl) ?_
  refine lv_iload_n hx hb dJ8_checkFromToIndex_10 rfl (lv_at hl 2 rfl) ?_
  refine z_icmp_le cx (tgt := 22) dJ8_checkFromToIndex_11 (by decide) (by omega) (fun c11 => ?_) (fun c11 => (by exfalso; omega))
  refine lv_iload_n hx hb dJ8_checkFromToIndex_22 rfl (lv_at hl 0 rfl) ?_
  exact z_iret cx hQ rfl rfl rfl hS (by omega) dJ8_checkFromToIndex_23
set_option maxHeartbeats 4000000 in
set_option maxRecDepth 100000 in
theorem m_J5_checkBoundsBeginEnd (G : zE) (l : Launch) (H0 : Heap) (f t n : Nat) (hB : Bh G H0) (h : f ≤ t ∧ t ≤ n ∧ n ≤ 100000) {mc ms : Nat}  : zV G l yJ5_checkBoundsBeginEnd (ws_ yJ5_checkBoundsBeginEnd cJ5_checkBoundsBeginEnd 3 (none)) 1 23 mc ms [.int (iI ↑f), .int (iI ↑t), .int (iI ↑n)] H0 (fun _ => True) (Pur H0) := by
  refine zV.start (cc := cJ5_checkBoundsBeginEnd) (by decide) (Nat.le_of_ble_eq_true rfl) ?_
  intro p e s m args below meth c Q cx hQ hmn ls hl
  have hx := cx.1
  have hb := cx.2.1
  have hS : va_S (Pur H0) H0 H0 [] := va_S.rf
  have hl : lv_has ls 3 [(0, .int (iI ↑f)), (1, .int (iI ↑t)), (2, .int (iI ↑n))] := hl
  refine lv_iload_n hx hb dJ5_checkBoundsBeginEnd_0 rfl (lv_at hl 0 rfl) ?_
  refine lv_iload_n hx hb dJ5_checkBoundsBeginEnd_1 rfl (lv_at hl 1 rfl) ?_
  refine lv_iload_n hx hb dJ5_checkBoundsBeginEnd_2 rfl (lv_at hl 2 rfl) ?_
  obtain ⟨sio, hsio⟩ := st_si cx.kk
  refine z_gets cx hsio hB q179 dJ5_checkBoundsBeginEnd_3 ?_
  refine z_callS cx (j := 4) (m_J8_checkFromToIndex G l _ f t n sio h (mc := 0) (ms := 0)) (lw_S q382 q383 q43 q384) (by decide +kernel) rfl (rest := []) rfl hl (Nat.le_of_ble_eq_true rfl) (by decide) (by omega) dJ5_checkBoundsBeginEnd_6 hS (fun q h => Nat.le_trans hS.1 h) (fun v6 H locs hp6 hz9 hk9 hS => ?_)
  have hE9 := Ext.of hz9 hk9 (fun q h => h)
  subst hp6
  refine lv_pop hx hb dJ5_checkBoundsBeginEnd_9 rfl ?_
  exact z_vret cx hQ rfl trivial hS (by omega) dJ5_checkBoundsBeginEnd_10
set_option maxHeartbeats 4000000 in
set_option maxRecDepth 100000 in
theorem m_J11_copyOfRange (G : zE) (l : Launch) (H0 : Heap) (b f t : Nat) (xs : List Int) (h : Sb G H0 b xs) (hch : chs xs) (hn : xs.length ≤ 100000) (hf : f ≤ t ∧ t ≤ xs.length) (hnc : ¬ (f = 0 ∧ t = xs.length)) {mc ms : Nat} (hmc : 1 ≤ mc) (hms : t - f ≤ ms) : zR G l yJ11_copyOfRange (ws_ yJ11_copyOfRange cJ11_copyOfRange 3 (some (FieldType.array FieldType.byte))) 2 84 mc ms [.ref b, .int (iI ↑f), .int (iI ↑t)] H0 (fun r H1 => ∃ a : Nat, r = .ref a ∧ H0.size ≤ a ∧ Ai G H1 a 100 (sl xs f t)) (Pur H0) := by
  refine zR.start (cc := cJ11_copyOfRange) (by decide) (Nat.le_of_ble_eq_true rfl) ?_
  intro p e s m args below meth c Q cx hQ hmn ls hl
  have hx := cx.1
  have hb := cx.2.1
  have hS : va_S (Pur H0) H0 H0 [] := va_S.rf
  have hl : lv_has ls 3 [(0, .ref b), (1, .int (iI ↑f)), (2, .int (iI ↑t))] := hl
  refine lv_iload_n hx hb dJ11_copyOfRange_0 rfl (lv_at hl 1 rfl) ?_
  refine z_if_ne cx (tgt := 10) dJ11_copyOfRange_1 (by decide) (by omega) (fun c1 => ?_) (fun c1 => ?_)
  · refine lv_aload_n hx hb dJ11_copyOfRange_10 rfl (lv_at hl 0 rfl) ?_
    refine lv_iload_n hx hb dJ11_copyOfRange_11 rfl (lv_at hl 1 rfl) ?_
    refine lv_iload_n hx hb dJ11_copyOfRange_12 rfl (lv_at hl 2 rfl) ?_
    refine z_callS cx (j := 3) (m_J11_copyOfRangeByte G l _ b f t xs (h.ext (Ext.ofS hS)) hch hn hf (mc := 1) (ms := t - f) (Nat.le_refl _) (Nat.le_refl _)) (lw_S q308 q309 q46 q310) (by decide +kernel) rfl (rest := []) rfl hl (Nat.le_of_ble_eq_true rfl) (by decide) (by omega) dJ11_copyOfRange_13 hS (fun q h => Nat.le_trans hS.1 h) (fun v13 H locs hp13 hz9 hk9 hS => ?_)
    have hE9 := Ext.of hz9 hk9 (fun q h => h)
    obtain ⟨a, rfl, hga, Aa⟩ := hp13
    exact z_aret cx hQ rfl (Or.inr ⟨_, rfl⟩) (⟨a, rfl, hga, Aa⟩) hS (by omega) dJ11_copyOfRange_16
  · refine lv_iload_n hx hb dJ11_copyOfRange_4 rfl (lv_at hl 2 rfl) ?_
    refine lv_aload_n hx hb dJ11_copyOfRange_5 rfl (lv_at hl 0 rfl) ?_
    refine z_alenS cx h dJ11_copyOfRange_6 ?_
    refine z_icmp_eq cx (tgt := 17) dJ11_copyOfRange_7 (by decide) (by omega) (fun c7 => (by exfalso; omega)) (fun c7 => ?_)
    refine lv_aload_n hx hb dJ11_copyOfRange_10 rfl (lv_at hl 0 rfl) ?_
    refine lv_iload_n hx hb dJ11_copyOfRange_11 rfl (lv_at hl 1 rfl) ?_
    refine lv_iload_n hx hb dJ11_copyOfRange_12 rfl (lv_at hl 2 rfl) ?_
    refine z_callS cx (j := 3) (m_J11_copyOfRangeByte G l _ b f t xs (h.ext (Ext.ofS hS)) hch hn hf (mc := 1) (ms := t - f) (Nat.le_refl _) (Nat.le_refl _)) (lw_S q308 q309 q46 q310) (by decide +kernel) rfl (rest := []) rfl hl (Nat.le_of_ble_eq_true rfl) (by decide) (by omega) dJ11_copyOfRange_13 hS (fun q h => Nat.le_trans hS.1 h) (fun v13 H locs hp13 hz9 hk9 hS => ?_)
    have hE9 := Ext.of hz9 hk9 (fun q h => h)
    obtain ⟨a, rfl, hga, Aa⟩ := hp13
    exact z_aret cx hQ rfl (Or.inr ⟨_, rfl⟩) (⟨a, rfl, hga, Aa⟩) hS (by omega) dJ11_copyOfRange_16
set_option maxHeartbeats 4000000 in
set_option maxRecDepth 100000 in
theorem m_J7_newString (G : zE) (l : Launch) (H0 : Heap) (b i n : Nat) (xs : List Int) (hB : Bh G H0) (h : Sb G H0 b xs) (hch : chs xs) (hn : xs.length ≤ 100000) (hf : i + n ≤ xs.length) (hnc : ¬ (i = 0 ∧ n = xs.length) ∨ n = 0) {mc ms : Nat} (hmc : 2 ≤ mc) (hms : n + 4 ≤ ms) : zR G l yJ7_newString (ws_ yJ7_newString cJ7_newString 3 (some (FieldType.object "java/lang/String"))) 3 106 mc ms [.ref b, .int (iI ↑i), .int (iI ↑n)] H0 (fun r H1 => ∃ a : Nat, r = .ref a ∧ St G (fun q => H0.size ≤ q ∨ q < G.2.heap.size) H1 a (sl xs i (i + n))) (Pur H0) := by
  refine zR.start (cc := cJ7_newString) (by decide) (Nat.le_of_ble_eq_true rfl) ?_
  intro p e s m args below meth c Q cx hQ hmn ls hl
  have hx := cx.1
  have hb := cx.2.1
  have hS : va_S (Pur H0) H0 H0 [] := va_S.rf
  have hl : lv_has ls 3 [(0, .ref b), (1, .int (iI ↑i)), (2, .int (iI ↑n))] := hl
  refine lv_iload_n hx hb dJ7_newString_0 rfl (lv_at hl 2 rfl) ?_
  refine z_if_ne cx (tgt := 7) dJ7_newString_1 (by decide) (by omega) (fun c1 => ?_) (fun c1 => ?_)
  · refine z_new cx (ci := 10) (vs := [.null, .int (iI 0)]) hS rfl in_S5 tyS5_ok q481 q283 q40 (zdefJ5) (by omega) dJ7_newString_7 (fun a H ha hga Aa hz9 hE9 hS => ?_)
    refine lv_dup hx hb dJ7_newString_10 rfl ?_
    refine lv_aload_n hx hb dJ7_newString_11 rfl (lv_at hl 0 rfl) ?_
    refine lv_iload_n hx hb dJ7_newString_12 rfl (lv_at hl 1 rfl) ?_
    refine lv_iload_n hx hb dJ7_newString_13 rfl (lv_at hl 1 rfl) ?_
    refine lv_iload_n hx hb dJ7_newString_14 rfl (lv_at hl 2 rfl) ?_
    refine z_iadd cx (z := ((i + n : Nat) : Int)) dJ7_newString_15 (by omega) ?_
    have e1 : ((i + n : Nat) : Int) = (i : Int) + n := by omega
    refine z_callS cx (j := 3) (m_J11_copyOfRange G l _ b i (i + n) xs (h.ext (Ext.ofS hS)) hch hn ⟨by omega, hf⟩ (by omega) (mc := 1) (ms := n) (Nat.le_refl _) (by omega)) (lw_S q482 q306 q46 q307) (by decide +kernel) rfl (rest := [.ref a, .ref a]) rfl hl (Nat.le_of_ble_eq_true rfl) (by decide) (by omega) dJ7_newString_16 hS (fun q h => Nat.le_trans hS.1 h) (fun v16 H locs hp16 hz9 hk9 hS => ?_)
    have hE9 := Ext.of hz9 hk9 (fun q h => h)
    obtain ⟨d, rfl, hgd, Ad⟩ := hp16
    have Aa := Aa.ext hE9
    have hal := Aa.lt
    have hda : d ≠ a := by omega
    have hgs := hS.1
    refine lv_iconst (v := iI (0)) hx hb dJ7_newString_19 rfl ?_
    refine z_callI cx (j := 2) (m_J5_init_3 G l _ a d Aa (mc := 0) (ms := 0)) (lw_meth q485) q40 q483 q484 rfl (by decide +kernel) rfl (rest := [.ref a]) rfl hl (Nat.le_of_ble_eq_true rfl) (by decide) (by omega) dJ7_newString_20 hS (fun q h => by rcases h with h | h; exact Nat.le_trans hS.1 h; exact h ▸ hga) (fun H locs hp20 hz9 hk9 hS => ?_)
    have Aa := hp20
    have Ad := Ad.kept (hk9 d Ad.lt (by rintro (z | z); exact absurd Ad.lt (Nat.not_lt.mpr z); exact hda z))
    exact z_aret cx hQ rfl (Or.inl ⟨_, rfl⟩) (⟨a, rfl, Or.inl hga, chs_sl hch _ _, by rw [sl_len (by omega)]; omega, d, Or.inl (by omega), Ss.of cx.kk Aa, Sb.of cx.kk Ad⟩) hS (by omega) dJ7_newString_23
  · obtain ⟨la4, ltx, lR, lS4⟩ := lit_J7_151 cx.kk.1
    refine z_ldcS cx lR dJ7_newString_4 ?_
    exact z_aret cx hQ rfl (Or.inl ⟨_, rfl⟩) (⟨la4, rfl, by rw [show n = 0 by omega, Nat.add_zero, sl_nil (Nat.le_refl _)]; exact lS4.kp (fun q hq hp => ⟨Or.inr hp, (hB.ext (Ext.ofS hS)).2 q hq⟩)⟩) hS (by omega) dJ7_newString_6
set_option maxHeartbeats 4000000 in
set_option maxRecDepth 100000 in
theorem m_J5_substring (G : zE) (l : Launch) (H0 : Heap) (P : Nat → Prop) (a f t : Nat) (xs : List Int) (hB : Bh G H0) (h0 : St G P H0 a xs) (hf : f ≤ t ∧ t ≤ xs.length) {mc ms : Nat} (hmc : 2 ≤ mc) (hms : (t - f) + 4 ≤ ms) : zR G l yJ5_substring (ws_ yJ5_substring cJ5_substring 5 (some (FieldType.object "java/lang/String"))) 4 128 mc ms [.ref a, .int (iI ↑f), .int (iI ↑t)] H0 (fun r H1 => ∃ d : Nat, r = .ref d ∧ St G (fun q => P q ∨ H0.size ≤ q ∨ q < G.2.heap.size) H1 d (sl xs f t)) (Pur H0) := by
  refine zR.start (cc := cJ5_substring) (by decide) (Nat.le_of_ble_eq_true rfl) ?_
  intro p e s m args below meth c Q cx hQ hmn ls hl
  have hx := cx.1
  have hb := cx.2.1
  have hS : va_S (Pur H0) H0 H0 [] := va_S.rf
  have hl : lv_has ls 5 [(0, .ref a), (1, .int (iI ↑f)), (2, .int (iI ↑t))] := hl
  have h := h0
  obtain ⟨-, hch, hn, b, -, hs, hb9⟩ := h
  have l22 : ∀ (fuel : Nat) , 0 < fuel → (¬ (f = 0 ∧ t = xs.length)) → ∀ (H : Heap) (locs : List Loc) (ls : Array Slot) (k n : Nat), va_S (Pur H0) H0 H locs → (k + 2 ≤ mc) → (n + (t - f + 4) ≤ ms) → lv_has ls 5 [(0, .ref a), (1, .int (iI ↑f)), (2, .int (iI ↑t))] → W p l e ⟨4, mc, ms, 128⟩ s m args below meth c H locs k n Q (F0 m 22 ls []) := by
    intro fuel
    induction fuel with
    | zero => intro  hf9; exact absurd hf9 (Nat.not_lt_zero _)
    | succ fuel ih_l22 =>
      intro  hf9 hnf H locs ls k n hS  hr1 hr2 hl
      have hms9 : f + (t - f) = t := by omega
      refine lv_iload_n hx hb dJ5_substring_22 rfl (lv_at hl 2 rfl) ?_
      refine lv_iload_n hx hb dJ5_substring_23 rfl (lv_at hl 1 rfl) ?_
      refine z_isub cx (z := ((t - f : Nat) : Int)) dJ5_substring_24 (by omega) ?_
      refine lv_istore (lv' := [(4, .int (iI ((t - f : Nat) : Int))), (0, .ref a), (1, .int (iI ↑f)), (2, .int (iI ↑t))]) hx hb dJ5_substring_25 hl (by decide) rfl (fun ls hl => ?_)
      refine lv_aload_n hx hb dJ5_substring_27 rfl (lv_at hl 1 rfl) ?_
      refine z_callV cx (j := 0) (m_J5_isLatin1 G l _ a b (hB.ext (Ext.ofS hS)) (hs.ext (Ext.ofS hS)) (mc := 0) (ms := 0)) (lw_V q169 q170 q171 q40 q172) (zrecvS cx (hs.ext (Ext.ofS hS))) (by decide +kernel) rfl (rest := []) rfl hl (Nat.le_of_ble_eq_true rfl) (by decide) (by omega) dJ5_substring_28 hS (fun q h => Nat.le_trans hS.1 h) (fun v28 H locs hp28 hz9 hk9 hS => ?_)
      have hE9 := Ext.of hz9 hk9 (fun q h => h)
      subst hp28
      refine z_if_eq cx (tgt := 47) dJ5_substring_31 (by decide) (by omega) (fun c31 => (by exfalso; omega)) (fun c31 => ?_)
      refine lv_aload_n hx hb dJ5_substring_34 rfl (lv_at hl 1 rfl) ?_
      refine z_getSv cx (hs.ext (Ext.ofS hS)) q457 dJ5_substring_35 ?_
      refine lv_iload_n hx hb dJ5_substring_38 rfl (lv_at hl 2 rfl) ?_
      refine lv_iload hx hb dJ5_substring_39 (lv_at hl 0 rfl) ?_
      have hgs := hS.1
      refine z_callS cx (j := 3) (m_J7_newString G l _ b f (t - f) xs (hB.ext (Ext.ofS hS)) (hb9.ext (Ext.ofS hS)) hch hn (by omega) (by omega) (mc := 2) (ms := t - f + 4) (Nat.le_refl _) (Nat.le_refl _)) (lw_S q477 q478 q42 q479) (by decide +kernel) rfl (rest := []) rfl hl (Nat.le_of_ble_eq_true rfl) (by decide) (by omega) dJ5_substring_41 hS (fun q h => Nat.le_trans hS.1 h) (fun v41 H locs hp41 hz9 hk9 hS => ?_)
      have hE9 := Ext.of hz9 hk9 (fun q h => h)
      obtain ⟨d, rfl, hd9⟩ := hp41
      rw [hms9] at hd9
      have hd9 := hd9.kp (P' := fun q => P q ∨ H0.size ≤ q ∨ q < G.2.heap.size) (Kp.weak (fun q _ hq => by rcases hq with z | z; exact Or.inr (Or.inl (Nat.le_trans hgs z)); exact Or.inr (Or.inr z)))
      refine lv_goto (tgt := 57) hx hb dJ5_substring_44 (by decide) ?_
      exact z_aret cx hQ rfl (Or.inl ⟨_, rfl⟩) (⟨d, rfl, hd9⟩) hS (by omega) dJ5_substring_57
  refine lv_aload_n hx hb dJ5_substring_0 rfl (lv_at hl 0 rfl) ?_
  refine z_callV cx (j := 0) (m_J5_length G l _ P a xs (hB.ext (Ext.ofS hS)) (h0.ext (Ext.ofS hS)) (mc := 0) (ms := 0)) (lw_V q475 q157 q158 q40 q159) (zrecvS cx hs) (by decide +kernel) rfl (rest := []) rfl hl (Nat.le_of_ble_eq_true rfl) (by decide) (by omega) dJ5_substring_1 hS (fun q h => Nat.le_trans hS.1 h) (fun v1 H locs hp1 hz9 hk9 hS => ?_)
  have hE9 := Ext.of hz9 hk9 (fun q h => h)
  subst hp1
  refine lv_istore_n (lv' := [(3, .int (iI ↑xs.length)), (0, .ref a), (1, .int (iI ↑f)), (2, .int (iI ↑t))]) hx hb dJ5_substring_4 rfl hl (by decide) rfl (fun ls hl => ?_)
  refine lv_iload_n hx hb dJ5_substring_5 rfl (lv_at hl 2 rfl) ?_
  refine lv_iload_n hx hb dJ5_substring_6 rfl (lv_at hl 3 rfl) ?_
  refine lv_iload_n hx hb dJ5_substring_7 rfl (lv_at hl 0 rfl) ?_
  refine z_callSv cx (j := 3) (m_J5_checkBoundsBeginEnd G l _ f t xs.length (hB.ext (Ext.ofS hS)) ⟨hf.1, hf.2, hn⟩ (mc := 0) (ms := 0)) (lw_S q476 q380 q40 q381) (by decide +kernel) rfl (rest := []) rfl hl (Nat.le_of_ble_eq_true rfl) (by decide) (by omega) dJ5_substring_8 hS (fun q h => Nat.le_trans hS.1 h) (fun H locs hp8 hz9 hk9 hS => ?_)
  have hE9 := Ext.of hz9 hk9 (fun q h => h)
  skip
  refine lv_iload_n hx hb dJ5_substring_11 rfl (lv_at hl 2 rfl) ?_
  refine z_if_ne cx (tgt := 22) dJ5_substring_12 (by decide) (by omega) (fun c12 => ?_) (fun c12 => ?_)
  · exact l22 _  (Nat.lt_succ_self _) (by omega) _ _ _ _ _ hS  (by omega) (by omega) (lv_sub hl [1, 2, 3] rfl)
  · refine lv_iload_n hx hb dJ5_substring_15 rfl (lv_at hl 3 rfl) ?_
    refine lv_iload_n hx hb dJ5_substring_16 rfl (lv_at hl 0 rfl) ?_
    refine z_icmp_ne cx (tgt := 22) dJ5_substring_17 (by decide) (by omega) (fun c17 => ?_) (fun c17 => ?_)
    · exact l22 _  (Nat.lt_succ_self _) (by omega) _ _ _ _ _ hS  (by omega) (by omega) (lv_sub hl [1, 2, 3] rfl)
    · refine lv_aload_n hx hb dJ5_substring_20 rfl (lv_at hl 1 rfl) ?_
      have e1 : sl xs f t = xs := by rw [show f = 0 by omega, show t = xs.length by omega, sl_to, List.drop_zero]
      exact z_aret cx hQ rfl (Or.inl ⟨_, rfl⟩) (⟨a, rfl, by rw [e1]; exact (h0.ext (Ext.ofS hS)).kp (Kp.weak (fun q _ hq => Or.inl hq))⟩) hS (by omega) dJ5_substring_21
set_option maxHeartbeats 4000000 in
set_option maxRecDepth 100000 in
theorem m_J5_substring_2 (G : zE) (l : Launch) (H0 : Heap) (P : Nat → Prop) (a f : Nat) (xs : List Int) (hB : Bh G H0) (h0 : St G P H0 a xs) (hf : f ≤ xs.length) {mc ms : Nat} (hmc : 2 ≤ mc) (hms : (xs.length - f) + 4 ≤ ms) : zR G l yJ5_substring_2 (ws_ yJ5_substring_2 cJ5_substring_2 2 (some (FieldType.object "java/lang/String"))) 5 152 mc ms [.ref a, .int (iI ↑f)] H0 (fun r H1 => ∃ d : Nat, r = .ref d ∧ St G (fun q => P q ∨ H0.size ≤ q ∨ q < G.2.heap.size) H1 d (sl xs f xs.length)) (Pur H0) := by
  refine zR.start (cc := cJ5_substring_2) (by decide) (Nat.le_of_ble_eq_true rfl) ?_
  intro p e s m args below meth c Q cx hQ hmn ls hl
  have hx := cx.1
  have hb := cx.2.1
  have hS : va_S (Pur H0) H0 H0 [] := va_S.rf
  have hl : lv_has ls 2 [(0, .ref a), (1, .int (iI ↑f))] := hl
  have h := h0
  obtain ⟨-, hch, hn, b, -, hs, hb9⟩ := h
  refine lv_aload_n hx hb dJ5_substring_2_0 rfl (lv_at hl 0 rfl) ?_
  refine lv_iload_n hx hb dJ5_substring_2_1 rfl (lv_at hl 1 rfl) ?_
  refine lv_aload_n hx hb dJ5_substring_2_2 rfl (lv_at hl 0 rfl) ?_
  refine z_callV cx (j := 0) (m_J5_length G l _ P a xs (hB.ext (Ext.ofS hS)) (h0.ext (Ext.ofS hS)) (mc := 0) (ms := 0)) (lw_V q475 q157 q158 q40 q159) (zrecvS cx hs) (by decide +kernel) rfl (rest := [.int (iI ↑f), .ref a]) rfl hl (Nat.le_of_ble_eq_true rfl) (by decide) (by omega) dJ5_substring_2_3 hS (fun q h => Nat.le_trans hS.1 h) (fun v3 H locs hp3 hz9 hk9 hS => ?_)
  have hE9 := Ext.of hz9 hk9 (fun q h => h)
  subst hp3
  have hgs := hS.1
  refine z_callV cx (j := 2) (m_J5_substring G l _ P a f xs.length xs (hB.ext (Ext.ofS hS)) (h0.ext (Ext.ofS hS)) ⟨hf, Nat.le_refl _⟩ (mc := 2) (ms := xs.length - f + 4) (Nat.le_refl _) (Nat.le_refl _)) (lw_V q616 q472 q473 q40 q474) (zrecvS cx (hs.ext (Ext.ofS hS))) (by decide +kernel) rfl (rest := []) rfl hl (Nat.le_of_ble_eq_true rfl) (by decide) (by omega) dJ5_substring_2_6 hS (fun q h => Nat.le_trans hS.1 h) (fun v6 H locs hp6 hz9 hk9 hS => ?_)
  have hE9 := Ext.of hz9 hk9 (fun q h => h)
  obtain ⟨d, rfl, hd9⟩ := hp6
  have hd9 := hd9.kp (P' := fun q => P q ∨ H0.size ≤ q ∨ q < G.2.heap.size) (Kp.weak (fun q _ hq => by rcases hq with z | z | z; exact Or.inl z; exact Or.inr (Or.inl (Nat.le_trans hgs z)); exact Or.inr (Or.inr z)))
  exact z_aret cx hQ rfl (Or.inl ⟨_, rfl⟩) (⟨d, rfl, hd9⟩) hS (by omega) dJ5_substring_2_9
