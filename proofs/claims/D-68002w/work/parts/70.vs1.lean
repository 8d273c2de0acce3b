/-! ===== the component: strings ===== -/
set_option maxHeartbeats 4000000 in
set_option maxRecDepth 100000 in
theorem m_X1_small (G : zE) (l : Launch) (H0 : Heap) (P : Nat → Prop) (a : Nat) (xs : List Int) (hB : Bh G H0) (h0 : St G P H0 a xs) (hn : xs.length ≤ 10000) {mc ms : Nat} (hmc : xs.length + 4 ≤ mc) (hms : 5 * xs.length + 60 ≤ ms) : zR G l yX1_small (ws_ yX1_small cX1_small 4 (some (FieldType.object "java/lang/String"))) 6 171 mc ms [.ref a] H0 (fun r H1 => ∃ d : Nat, r = .ref d ∧ St G (Pur H0) H1 d (xs.map smI)) (Pur H0) := by
  refine zR.start (cc := cX1_small) (by decide) (Nat.le_of_ble_eq_true rfl) ?_
  intro p e s m args below meth c Q cx hQ hmn ls hl
  have hx := cx.1
  have hb := cx.2.1
  have hS : va_S (Pur H0) H0 H0 [] := va_S.rf
  have hl : lv_has ls 4 [(0, .ref a)] := hl
  have h3 := h0
  obtain ⟨-, hch, hln, b0, -, hs, -⟩ := h3
  have hB9 := hB.1
  refine z_new cx (ci := 9) (vs := [.null, .int (iI 0), .int (iI 0), .int (iI 0)]) hS rfl in_J4 tyJ4_ok q125 q126 q39 (zdefJ4) (by omega) dX1_small_0 (fun sb H hsb hgsb Asb hz9 hE9 hS => ?_)
  refine lv_dup hx hb dX1_small_3 rfl ?_
  refine z_callI cx (j := 0) (m_J4_init G l _ sb (.int (iI 0)) (.int (iI 0)) (hB.ext (Ext.ofS hS)) (by omega) Asb (mc := 1) (ms := 16) (Nat.le_refl _) (Nat.le_refl _)) (lw_meth q129) q39 q127 q128 rfl (by decide +kernel) rfl (rest := [.ref sb]) rfl hl (Nat.le_of_ble_eq_true rfl) (by decide) (by omega) dX1_small_4 hS (fun q h => by rcases h with h | h; exact Nat.le_trans hS.1 h; exact h ▸ hgsb) (fun H locs hp4 hz9 hk9 hS => ?_)
  obtain ⟨d, hgd, hs9, Ad⟩ := hp4
  refine lv_astore_n (lv' := [(1, .ref sb), (0, .ref a)]) hx hb dX1_small_7 rfl hl (by decide) rfl (fun ls hl => ?_)
  refine lv_iconst (v := iI (0)) hx hb dX1_small_8 rfl ?_
  refine lv_istore_n (lv' := [(2, .int (iI 0)), (1, .ref sb), (0, .ref a)]) hx hb dX1_small_9 rfl hl (by decide) rfl (fun ls hl => ?_)
  have lp : ∀ (fuel : Nat) (j r b : Nat) (Y : List Int), (xs.length - j) < fuel → (j ≤ xs.length) → (Y = (sl xs 0 j).map smI) → (H0.size ≤ b) → (Y.length + r ≤ 2 * xs.length + 16) → ∀ (H : Heap) (locs : List Loc) (ls : Array Slot) (k n : Nat), va_S (Pur H0) H0 H locs → Ob G H sb 9 [.ref b, .int (iI 0), .int (iI 0), .int (iI ↑Y.length)] → Ai G H b 100 (Y ++ List.replicate r 0) → (k + (xs.length - j) + 2 ≤ mc) → (n + 4 * xs.length + 32 + (xs.length + 4) ≤ ms + 2 * (Y.length + r)) → lv_has ls 4 [(0, .ref a), (1, .ref sb), (2, .int (iI ↑j))] → W p l e ⟨6, mc, ms, 171⟩ s m args below meth c H locs k n Q (F0 m 10 ls []) := by
    intro fuel
    induction fuel with
    | zero => intro j r b Y hf9; exact absurd hf9 (Nat.not_lt_zero _)
    | succ fuel ih_lp =>
      intro j r b Y hf9 hj hY hgb hcap H locs ls k n hS hs9 Ab hr1 hr2 hl
      have hlY : Y.length = j := by rw [hY, map_len, sl_len hj, Nat.sub_zero]
      have hcY : chs Y := by rw [hY]; exact chs_map' (chs_sl hch _ _)
      refine lv_iload_n hx hb dX1_small_10 rfl (lv_at hl 2 rfl) ?_
      refine lv_aload_n hx hb dX1_small_11 rfl (lv_at hl 0 rfl) ?_
      refine z_callV cx (j := 0) (m_J5_length G l _ P a xs (hB.ext (Ext.ofS hS)) (h0.ext (Ext.ofS hS)) (mc := 0) (ms := 0)) (lw_V q156 q157 q158 q40 q159) (zrecvS cx (hs.ext (Ext.ofS hS))) (by decide +kernel) rfl (rest := [.int (iI ↑j)]) rfl hl (Nat.le_of_ble_eq_true rfl) (by decide) (by omega) dX1_small_12 hS (fun q h => Nat.le_trans hS.1 h) (fun v12 H locs hp12 hz9 hk9 hS => ?_)
      have hE9 := Ext.of hz9 hk9 (fun q h => h)
      have hs9 := hs9.ext hE9
      have Ab := Ab.ext hE9
      subst hp12
      refine z_icmp_ge cx (tgt := 56) dX1_small_15 (by decide) (by omega) (fun c15 => ?_) (fun c15 => ?_)
      · have hgs9 := hS.1
        have e1 : Y = xs.map smI := by rw [hY, show j = xs.length by omega, sl_all]
        refine lv_aload_n hx hb dX1_small_56 rfl (lv_at hl 1 rfl) ?_
        refine z_callV cx (j := 0) (m_J4_toString G l _ sb b r Y (.int (iI 0)) (hB.ext (Ext.ofS hS)) hs9 Ab hcY (by omega) (mc := 2) (ms := Y.length + 4) (Nat.le_refl _) (Nat.le_refl _)) (lw_V q278 q279 q280 q39 q281) (zrecv cx hs9 rfl) (by decide +kernel) rfl (rest := []) rfl hl (Nat.le_of_ble_eq_true rfl) (by decide) (by omega) dX1_small_57 hS (fun q h => Nat.le_trans hS.1 h) (fun v57 H locs hp57 hz9 hk9 hS => ?_)
        have hE9 := Ext.of hz9 hk9 (fun q h => h)
        obtain ⟨d, rfl, hd9⟩ := hp57
        have hs9 := hs9.ext hE9
        have Ab := Ab.ext hE9
        have hd9 := hd9.kp (P' := Pur H0) (Kp.weak (fun q _ hq => Nat.le_trans hgs9 hq))
        exact z_aret cx hQ rfl (Or.inl ⟨_, rfl⟩) (⟨d, rfl, by rw [← e1]; exact hd9⟩) hS (by omega) dX1_small_60
      · obtain ⟨c9, hc9⟩ := gcx (show j < xs.length by omega)
        have hcr := hch c9 (List.mem_of_getElem? hc9)
        refine lv_aload_n hx hb dX1_small_18 rfl (lv_at hl 0 rfl) ?_
        refine lv_iload_n hx hb dX1_small_19 rfl (lv_at hl 2 rfl) ?_
        refine z_callV cx (j := 1) (m_J5_charAt G l _ P a j xs c9 (hB.ext (Ext.ofS hS)) (h0.ext (Ext.ofS hS)) hc9 (mc := 0) (ms := 0)) (lw_V q165 q166 q167 q40 q168) (zrecvS cx (hs.ext (Ext.ofS hS))) (by decide +kernel) rfl (rest := []) rfl hl (Nat.le_of_ble_eq_true rfl) (by decide) (by omega) dX1_small_20 hS (fun q h => Nat.le_trans hS.1 h) (fun v20 H locs hp20 hz9 hk9 hS => ?_)
        have hE9 := Ext.of hz9 hk9 (fun q h => h)
        have hs9 := hs9.ext hE9
        have Ab := Ab.ext hE9
        subst hp20
        refine lv_istore_n (lv' := [(3, .int (iI c9)), (0, .ref a), (1, .ref sb), (2, .int (iI ↑j))]) hx hb dX1_small_23 rfl hl (by decide) rfl (fun ls hl => ?_)
        have l46 : ∀ (fuel : Nat) (z : Int), 0 < fuel → (z = smI c9) → ∀ (H : Heap) (locs : List Loc) (ls : Array Slot) (k n : Nat), va_S (Pur H0) H0 H locs → Ob G H sb 9 [.ref b, .int (iI 0), .int (iI 0), .int (iI ↑Y.length)] → Ai G H b 100 (Y ++ List.replicate r 0) → (k + (xs.length - j) + 2 ≤ mc) → (n + 4 * xs.length + 32 + (xs.length + 4) ≤ ms + 2 * (Y.length + r)) → lv_has ls 4 [(0, .ref a), (1, .ref sb), (2, .int (iI ↑j)), (3, .int (iI c9))] → W p l e ⟨6, mc, ms, 171⟩ s m args below meth c H locs k n Q (F0 m 46 ls [.int (iI z), .ref sb]) := by
          intro fuel
          induction fuel with
          | zero => intro z hf9; exact absurd hf9 (Nat.not_lt_zero _)
          | succ fuel ih_l46 =>
            intro z hf9 hz H locs ls k n hS hs9 Ab hr1 hr2 hl
            have hzr := smI_rg hcr
            rw [← hz] at hzr
            have hB8 := hB.1
            have hgs8 := hS.1
            have hif1 : (r = 0 ∧ (if r = 0 then 1 else 0) = 1) ∨ (¬ r = 0 ∧ (if r = 0 then 1 else 0) = 0) := by split <;> omega
            have hif2 : (r = 0 ∧ (if r = 0 then 2 * Y.length + 2 else 0) = 2 * Y.length + 2) ∨ (¬ r = 0 ∧ (if r = 0 then 2 * Y.length + 2 else 0) = 0) := by split <;> omega
            have hif3 : (r = 0 ∧ (if r = 0 then Y.length + 1 else r - 1) = Y.length + 1) ∨ (¬ r = 0 ∧ (if r = 0 then Y.length + 1 else r - 1) = r - 1) := by split <;> omega
            refine z_callV cx (j := 1) (m_J4_append G l _ sb b r Y (.int (iI 0)) z (hB.ext (Ext.ofS hS)) ⟨by omega, by omega⟩ hs9 Ab hcY hzr (by omega) (mc := if r = 0 then 1 else 0) (ms := if r = 0 then 2 * Y.length + 2 else 0) (Nat.le_refl _) (Nat.le_refl _)) (lw_V q203 q204 q205 q39 q206) (zrecv cx hs9 rfl) (by decide +kernel) rfl (rest := []) rfl hl (Nat.le_of_ble_eq_true rfl) (by decide) (by omega) dX1_small_46 hS (fun q h => by rcases h with h | h | h; exact Nat.le_trans hS.1 h; exact h ▸ hgsb; exact h ▸ hgb) (fun v46 H locs hp46 hz9 hk9 hS => ?_)
            obtain ⟨rfl, d, hd, hs9, Ab⟩ := hp46
            have e2 : Y.length + 1 = (Y ++ [z]).length := by rw [List.length_append, List.length_singleton]
            rw [e2] at hs9
            refine lv_pop hx hb dX1_small_49 rfl ?_
            refine z_iinc cx (j := 2) (z := ((j + 1 : Nat) : Int)) (lv' := [(2, .int (iI ((j + 1 : Nat) : Int))), (0, .ref a), (1, .ref sb), (3, .int (iI c9))]) dX1_small_50 hl rfl (by omega) (by decide) rfl (fun ls hl => ?_)
            refine lv_goto (tgt := 10) hx hb dX1_small_53 (by decide) ?_
            exact ih_lp (j + 1) (if r = 0 then Y.length + 1 else r - 1) d (Y ++ [z]) (by omega) (by omega) (by rw [hY, hz, sl_snoc hc9 (Nat.zero_le _), List.map_append]; rfl) (by rcases hd with e | e; omega; omega) (by rw [← e2]; omega) _ _ _ _ _ hS hs9 Ab (by omega) (by rw [← e2]; omega) (lv_sub hl [1, 2, 0] rfl)
        refine lv_aload_n hx hb dX1_small_24 rfl (lv_at hl 2 rfl) ?_
        refine lv_iload_n hx hb dX1_small_25 rfl (lv_at hl 0 rfl) ?_
        refine lv_bipush (v := iI (65)) hx hb dX1_small_26 (by decide) ?_
        refine z_icmp_lt cx (tgt := 45) dX1_small_28 (by decide) (by omega) (fun c28 => ?_) (fun c28 => ?_)
        · refine lv_iload_n hx hb dX1_small_45 rfl (lv_at hl 0 rfl) ?_
          exact l46 _ c9 (Nat.lt_succ_self _) (by unfold smI; rw [if_neg (by omega)]) _ _ _ _ _ hS hs9 Ab (by omega) (by omega) (lv_sub hl [1, 2, 3, 0] rfl)
        · refine lv_iload_n hx hb dX1_small_31 rfl (lv_at hl 0 rfl) ?_
          refine lv_bipush (v := iI (90)) hx hb dX1_small_32 (by decide) ?_
          refine z_icmp_gt cx (tgt := 45) dX1_small_34 (by decide) (by omega) (fun c34 => ?_) (fun c34 => ?_)
          · refine lv_iload_n hx hb dX1_small_45 rfl (lv_at hl 0 rfl) ?_
            exact l46 _ c9 (Nat.lt_succ_self _) (by unfold smI; rw [if_neg (by omega)]) _ _ _ _ _ hS hs9 Ab (by omega) (by omega) (lv_sub hl [1, 2, 3, 0] rfl)
          · refine lv_iload_n hx hb dX1_small_37 rfl (lv_at hl 0 rfl) ?_
            refine lv_bipush (v := iI (32)) hx hb dX1_small_38 (by decide) ?_
            refine z_iadd cx (z := c9 + 32) dX1_small_40 (by omega) ?_
            refine lv_i2c (v := iI (c9 + 32)) hx hb dX1_small_41 (iI_c (by omega)) ?_
            refine lv_goto (tgt := 46) hx hb dX1_small_42 (by decide) ?_
            exact l46 _ (c9 + 32) (Nat.lt_succ_self _) (by unfold smI; rw [if_pos (by omega)]) _ _ _ _ _ hS hs9 Ab (by omega) (by omega) (lv_sub hl [1, 2, 3, 0] rfl)
  exact lp _ 0 16 d [] (Nat.lt_succ_self _) (Nat.zero_le _) (by rw [sl_nil (Nat.le_refl 0)]; rfl) (by omega) (by rw [List.length_nil]; omega) _ _ _ _ _ hS hs9 Ad (by omega) (by rw [List.length_nil]; omega) (lv_sub hl [2, 1, 0] rfl)
set_option maxHeartbeats 4000000 in
set_option maxRecDepth 100000 in
theorem m_X1_trimmed (G : zE) (l : Launch) (H0 : Heap) (P : Nat → Prop) (a : Nat) (xs : List Int) (hB : Bh G H0) (h0 : St G P H0 a xs) {mc ms : Nat} (hmc : 2 ≤ mc) (hms : xs.length + 4 ≤ ms) : zR G l yX1_trimmed (ws_ yX1_trimmed cX1_trimmed 3 (some (FieldType.object "java/lang/String"))) 5 152 mc ms [.ref a] H0 (fun r H1 => ∃ d : Nat, r = .ref d ∧ St G (PN G P H0) H1 d (trim xs)) (Pur H0) := by
  refine zR.start (cc := cX1_trimmed) (by decide) (Nat.le_of_ble_eq_true rfl) ?_
  intro p e s m args below meth c Q cx hQ hmn ls hl
  have hx := cx.1
  have hb := cx.2.1
  have hS : va_S (Pur H0) H0 H0 [] := va_S.rf
  have hl : lv_has ls 3 [(0, .ref a)] := hl
  have h3 := h0
  obtain ⟨-, hch, hln, b0, -, hs, -⟩ := h3
  have lp2 : ∀ (fuel : Nat) (u v : Nat), (v - u) < fuel → (u ≤ v ∧ v ≤ xs.length) → (trim xs = trim (sl xs u v)) → (u < v → ∀ c, xs[u]? = some c → c ≠ 32) → ∀ (H : Heap) (locs : List Loc) (ls : Array Slot) (k n : Nat), va_S (Pur H0) H0 H locs → (k ≤ 0) → (n ≤ 0) → lv_has ls 3 [(0, .ref a), (1, .int (iI ↑u)), (2, .int (iI ↑v))] → W p l e ⟨5, mc, ms, 152⟩ s m args below meth c H locs k n Q (F0 m 28 ls []) := by
    intro fuel
    induction fuel with
    | zero => intro u v hf9; exact absurd hf9 (Nat.not_lt_zero _)
    | succ fuel ih_lp2 =>
      intro u v hf9 hj htr h32 H locs ls k n hS  hr1 hr2 hl
      have l51 : ∀ (fuel : Nat) , 0 < fuel → (trim xs = sl xs u v) → ∀ (H : Heap) (locs : List Loc) (ls : Array Slot) (k n : Nat), va_S (Pur H0) H0 H locs → (k ≤ 0) → (n ≤ 0) → lv_has ls 3 [(0, .ref a), (1, .int (iI ↑u)), (2, .int (iI ↑v))] → W p l e ⟨5, mc, ms, 152⟩ s m args below meth c H locs k n Q (F0 m 51 ls []) := by
        intro fuel
        induction fuel with
        | zero => intro  hf9; exact absurd hf9 (Nat.not_lt_zero _)
        | succ fuel ih_l51 =>
          intro  hf9 he H locs ls k n hS  hr1 hr2 hl
          have hgs := hS.1
          refine lv_aload_n hx hb dX1_trimmed_51 rfl (lv_at hl 0 rfl) ?_
          refine lv_iload_n hx hb dX1_trimmed_52 rfl (lv_at hl 1 rfl) ?_
          refine lv_iload_n hx hb dX1_trimmed_53 rfl (lv_at hl 2 rfl) ?_
          refine z_callV cx (j := 2) (m_J5_substring G l _ P a u v xs (hB.ext (Ext.ofS hS)) (h0.ext (Ext.ofS hS)) hj (mc := 2) (ms := v - u + 4) (Nat.le_refl _) (Nat.le_refl _)) (lw_V q471 q472 q473 q40 q474) (zrecvS cx (hs.ext (Ext.ofS hS))) (by decide +kernel) rfl (rest := []) rfl hl (Nat.le_of_ble_eq_true rfl) (by decide) (by omega) dX1_trimmed_54 hS (fun q h => Nat.le_trans hS.1 h) (fun v54 H locs hp54 hz9 hk9 hS => ?_)
          have hE9 := Ext.of hz9 hk9 (fun q h => h)
          obtain ⟨d, rfl, hd9⟩ := hp54
          have hd9 := hd9.kp (P' := PN G P H0) (Kp.weak (fun q _ hq => by rcases hq with z | z | z; exact Or.inl z; exact Or.inr (Or.inl (Nat.le_trans hgs z)); exact Or.inr (Or.inr z)))
          exact z_aret cx hQ rfl (Or.inl ⟨_, rfl⟩) (⟨d, rfl, by rw [he]; exact hd9⟩) hS (by omega) dX1_trimmed_57
      refine lv_iload_n hx hb dX1_trimmed_28 rfl (lv_at hl 2 rfl) ?_
      refine lv_iload_n hx hb dX1_trimmed_29 rfl (lv_at hl 1 rfl) ?_
      refine z_icmp_le cx (tgt := 51) dX1_trimmed_30 (by decide) (by omega) (fun c30 => ?_) (fun c30 => ?_)
      · have e9 : sl xs u v = [] := sl_nil (by omega)
        exact l51 _  (Nat.lt_succ_self _) (by rw [htr, e9]; rfl) _ _ _ _ _ hS  (by omega) (by omega) (lv_sub hl [0, 1, 2] rfl)
      · obtain ⟨w, rfl⟩ : ∃ w, v = w + 1 := ⟨v - 1, by omega⟩
        obtain ⟨c9, hc9⟩ := gcx (show w < xs.length by omega)
        have hcr := hch c9 (List.mem_of_getElem? hc9)
        refine lv_aload_n hx hb dX1_trimmed_33 rfl (lv_at hl 0 rfl) ?_
        refine lv_iload_n hx hb dX1_trimmed_34 rfl (lv_at hl 2 rfl) ?_
        refine lv_iconst (v := iI (1)) hx hb dX1_trimmed_35 rfl ?_
        refine z_isub cx (z := (w : Int)) dX1_trimmed_36 (by omega) ?_
        refine z_callV cx (j := 1) (m_J5_charAt G l _ P a w xs c9 (hB.ext (Ext.ofS hS)) (h0.ext (Ext.ofS hS)) hc9 (mc := 0) (ms := 0)) (lw_V q165 q166 q167 q40 q168) (zrecvS cx (hs.ext (Ext.ofS hS))) (by decide +kernel) rfl (rest := []) rfl hl (Nat.le_of_ble_eq_true rfl) (by decide) (by omega) dX1_trimmed_37 hS (fun q h => Nat.le_trans hS.1 h) (fun v37 H locs hp37 hz9 hk9 hS => ?_)
        have hE9 := Ext.of hz9 hk9 (fun q h => h)
        subst hp37
        refine lv_bipush (v := iI (32)) hx hb dX1_trimmed_40 (by decide) ?_
        refine z_icmp_ne cx (tgt := 51) dX1_trimmed_42 (by decide) (by omega) (fun c42 => ?_) (fun c42 => ?_)
        · have e8 : trim xs = sl xs u (w + 1) := by
            rw [htr]
            refine trim_id (fun c h => h32 (by omega) c (sl_head h)) (fun c h => ?_)
            have h7 := sl_last (by omega) h
            rw [show w + 1 - 1 = w by omega, hc9] at h7
            cases h7
            exact c42
          exact l51 _  (Nat.lt_succ_self _) e8 _ _ _ _ _ hS  (by omega) (by omega) (lv_sub hl [0, 1, 2] rfl)
        · subst c42
          refine z_iinc cx (j := 2) (z := (w : Int)) (lv' := [(2, .int (iI (w : Int))), (0, .ref a), (1, .int (iI ↑u))]) dX1_trimmed_45 hl rfl (by omega) (by decide) rfl (fun ls hl => ?_)
          refine lv_goto (tgt := 28) hx hb dX1_trimmed_48 (by decide) ?_
          exact ih_lp2 u w (by omega) (by omega) (by rw [htr, sl_snoc hc9 (by omega), trim_e]) (fun hlt => h32 (by omega)) _ _ _ _ _ hS  (by omega) (by omega) (lv_sub hl [1, 2, 0] rfl)
  refine lv_iconst (v := iI (0)) hx hb dX1_trimmed_0 rfl ?_
  refine lv_istore_n (lv' := [(1, .int (iI 0)), (0, .ref a)]) hx hb dX1_trimmed_1 rfl hl (by decide) rfl (fun ls hl => ?_)
  refine lv_aload_n hx hb dX1_trimmed_2 rfl (lv_at hl 1 rfl) ?_
  refine z_callV cx (j := 0) (m_J5_length G l _ P a xs (hB.ext (Ext.ofS hS)) (h0.ext (Ext.ofS hS)) (mc := 0) (ms := 0)) (lw_V q156 q157 q158 q40 q159) (zrecvS cx hs) (by decide +kernel) rfl (rest := []) rfl hl (Nat.le_of_ble_eq_true rfl) (by decide) (by omega) dX1_trimmed_3 hS (fun q h => Nat.le_trans hS.1 h) (fun v3 H locs hp3 hz9 hk9 hS => ?_)
  have hE9 := Ext.of hz9 hk9 (fun q h => h)
  subst hp3
  refine lv_istore_n (lv' := [(2, .int (iI ↑xs.length)), (1, .int (iI 0)), (0, .ref a)]) hx hb dX1_trimmed_6 rfl hl (by decide) rfl (fun ls hl => ?_)
  have lp : ∀ (fuel : Nat) (u : Nat), (xs.length - u) < fuel → (u ≤ xs.length) → (trim xs = trim (sl xs u xs.length)) → ∀ (H : Heap) (locs : List Loc) (ls : Array Slot) (k n : Nat), va_S (Pur H0) H0 H locs → (k ≤ 0) → (n ≤ 0) → lv_has ls 3 [(0, .ref a), (1, .int (iI ↑u)), (2, .int (iI ↑xs.length))] → W p l e ⟨5, mc, ms, 152⟩ s m args below meth c H locs k n Q (F0 m 7 ls []) := by
    intro fuel
    induction fuel with
    | zero => intro u hf9; exact absurd hf9 (Nat.not_lt_zero _)
    | succ fuel ih_lp =>
      intro u hf9 hj htr H locs ls k n hS  hr1 hr2 hl
      refine lv_iload_n hx hb dX1_trimmed_7 rfl (lv_at hl 1 rfl) ?_
      refine lv_iload_n hx hb dX1_trimmed_8 rfl (lv_at hl 2 rfl) ?_
      refine z_icmp_ge cx (tgt := 28) dX1_trimmed_9 (by decide) (by omega) (fun c9 => ?_) (fun c9 => ?_)
      · exact lp2 _ u xs.length (Nat.lt_succ_self _) (by omega) htr (by omega) _ _ _ _ _ hS  (by omega) (by omega) (lv_sub hl [0, 1, 2] rfl)
      · obtain ⟨c9, hc9⟩ := gcx (show u < xs.length by omega)
        have hcr := hch c9 (List.mem_of_getElem? hc9)
        refine lv_aload_n hx hb dX1_trimmed_12 rfl (lv_at hl 0 rfl) ?_
        refine lv_iload_n hx hb dX1_trimmed_13 rfl (lv_at hl 1 rfl) ?_
        refine z_callV cx (j := 1) (m_J5_charAt G l _ P a u xs c9 (hB.ext (Ext.ofS hS)) (h0.ext (Ext.ofS hS)) hc9 (mc := 0) (ms := 0)) (lw_V q165 q166 q167 q40 q168) (zrecvS cx (hs.ext (Ext.ofS hS))) (by decide +kernel) rfl (rest := []) rfl hl (Nat.le_of_ble_eq_true rfl) (by decide) (by omega) dX1_trimmed_14 hS (fun q h => Nat.le_trans hS.1 h) (fun v14 H locs hp14 hz9 hk9 hS => ?_)
        have hE9 := Ext.of hz9 hk9 (fun q h => h)
        subst hp14
        refine lv_bipush (v := iI (32)) hx hb dX1_trimmed_17 (by decide) ?_
        refine z_icmp_ne cx (tgt := 28) dX1_trimmed_19 (by decide) (by omega) (fun c19 => ?_) (fun c19 => ?_)
        · exact lp2 _ u xs.length (Nat.lt_succ_self _) (by omega) htr (fun _ c h => by rw [hc9] at h; cases h; exact c19) _ _ _ _ _ hS  (by omega) (by omega) (lv_sub hl [0, 1, 2] rfl)
        · subst c19
          refine z_iinc cx (j := 1) (z := ((u + 1 : Nat) : Int)) (lv' := [(1, .int (iI ((u + 1 : Nat) : Int))), (0, .ref a), (2, .int (iI ↑xs.length))]) dX1_trimmed_22 hl rfl (by omega) (by decide) rfl (fun ls hl => ?_)
          refine lv_goto (tgt := 7) hx hb dX1_trimmed_25 (by decide) ?_
          exact ih_lp (u + 1) (by omega) (by omega) (by rw [htr, sl_cons hc9 (by omega), trim_b]) _ _ _ _ _ hS  (by omega) (by omega) (lv_sub hl [1, 0, 2] rfl)
  exact lp _ 0 (Nat.lt_succ_self _) (Nat.zero_le _) (by rw [sl_all]) _ _ _ _ _ hS  (by omega) (by omega) (lv_sub hl [2, 1, 0] rfl)
set_option maxHeartbeats 4000000 in
set_option maxRecDepth 100000 in
theorem m_X1_number (G : zE) (l : Launch) (H0 : Heap) (P : Nat → Prop) (a : Nat) (xs : List Int) (hB : Bh G H0) (h0 : St G P H0 a xs) {mc ms : Nat}  : zR G l yX1_number (ws_ yX1_number cX1_number 4 (some FieldType.int)) 4 85 mc ms [.ref a] H0 (fun r _ => r = .int (iI (numOf xs))) (Pur H0) := by
  refine zR.start (cc := cX1_number) (by decide) (Nat.le_of_ble_eq_true rfl) ?_
  intro p e s m args below meth c Q cx hQ hmn ls hl
  have hx := cx.1
  have hb := cx.2.1
  have hS : va_S (Pur H0) H0 H0 [] := va_S.rf
  have hl : lv_has ls 4 [(0, .ref a)] := hl
  have h3 := h0
  obtain ⟨-, hch, hln, b0, -, hs, -⟩ := h3
  have bad : ¬ (1 ≤ xs.length ∧ xs.length ≤ 6) → numOf xs = -1 := fun h => by rw [numOf, if_neg (fun q => h ⟨q.1, q.2.1⟩)]
  have lp : ∀ (fuel : Nat) (j : Nat) (v : Int), (xs.length - j) < fuel → (j ≤ xs.length ∧ 1 ≤ xs.length ∧ xs.length ≤ 6) → (v = numV (sl xs 0 j)) → ((sl xs 0 j).all isDg = true) → ∀ (H : Heap) (locs : List Loc) (ls : Array Slot) (k n : Nat), va_S (Pur H0) H0 H locs → (k ≤ mc) → (n ≤ ms) → lv_has ls 4 [(0, .ref a), (1, .int (iI v)), (2, .int (iI ↑j))] → W p l e ⟨4, mc, ms, 85⟩ s m args below meth c H locs k n Q (F0 m 23 ls []) := by
    intro fuel
    induction fuel with
    | zero => intro j v hf9; exact absurd hf9 (Nat.not_lt_zero _)
    | succ fuel ih_lp =>
      intro j v hf9 hj hv hd H locs ls k n hS  hr1 hr2 hl
      refine lv_iload_n hx hb dX1_number_23 rfl (lv_at hl 2 rfl) ?_
      refine lv_aload_n hx hb dX1_number_24 rfl (lv_at hl 0 rfl) ?_
      refine z_callV cx (j := 0) (m_J5_length G l _ P a xs (hB.ext (Ext.ofS hS)) (h0.ext (Ext.ofS hS)) (mc := 0) (ms := 0)) (lw_V q156 q157 q158 q40 q159) (zrecvS cx (hs.ext (Ext.ofS hS))) (by decide +kernel) rfl (rest := [.int (iI ↑j)]) rfl hl (Nat.le_of_ble_eq_true rfl) (by decide) (by omega) dX1_number_25 hS (fun q h => Nat.le_trans hS.1 h) (fun v25 H locs hp25 hz9 hk9 hS => ?_)
      have hE9 := Ext.of hz9 hk9 (fun q h => h)
      subst hp25
      refine z_icmp_ge cx (tgt := 67) dX1_number_28 (by decide) (by omega) (fun c28 => ?_) (fun c28 => ?_)
      · have e1 : j = xs.length := by omega
        subst e1
        rw [sl_all] at hv hd
        refine lv_iload_n hx hb dX1_number_67 rfl (lv_at hl 1 rfl) ?_
        exact z_iret cx hQ rfl rfl (by rw [numOf, if_pos ⟨by omega, by omega, hd⟩, hv]) hS (by omega) dX1_number_68
      · obtain ⟨c9, hc9⟩ := gcx (show j < xs.length by omega)
        have hcr := hch c9 (List.mem_of_getElem? hc9)
        have nd : isDg c9 = false → numOf xs = -1 := fun h => by rw [numOf, if_neg]; rintro ⟨-, -, q⟩; rw [List.all_eq_true] at q; have := q c9 (List.mem_of_getElem? hc9); rw [h] at this; cases this
        refine lv_aload_n hx hb dX1_number_31 rfl (lv_at hl 0 rfl) ?_
        refine lv_iload_n hx hb dX1_number_32 rfl (lv_at hl 2 rfl) ?_
        refine z_callV cx (j := 1) (m_J5_charAt G l _ P a j xs c9 (hB.ext (Ext.ofS hS)) (h0.ext (Ext.ofS hS)) hc9 (mc := 0) (ms := 0)) (lw_V q165 q166 q167 q40 q168) (zrecvS cx (hs.ext (Ext.ofS hS))) (by decide +kernel) rfl (rest := []) rfl hl (Nat.le_of_ble_eq_true rfl) (by decide) (by omega) dX1_number_33 hS (fun q h => Nat.le_trans hS.1 h) (fun v33 H locs hp33 hz9 hk9 hS => ?_)
        have hE9 := Ext.of hz9 hk9 (fun q h => h)
        subst hp33
        refine lv_istore_n (lv' := [(3, .int (iI c9)), (0, .ref a), (1, .int (iI v)), (2, .int (iI ↑j))]) hx hb dX1_number_36 rfl hl (by decide) rfl (fun ls hl => ?_)
        refine lv_iload_n hx hb dX1_number_37 rfl (lv_at hl 0 rfl) ?_
        refine lv_bipush (v := iI (48)) hx hb dX1_number_38 (by decide) ?_
        refine z_icmp_lt cx (tgt := 49) dX1_number_40 (by decide) (by omega) (fun c40 => ?_) (fun c40 => ?_)
        · refine lv_iconst (v := iI (-1)) hx hb dX1_number_49 rfl ?_
          exact z_iret cx hQ rfl rfl (by rw [nd (by unfold isDg; exact decide_eq_false (by omega))]) hS (by omega) dX1_number_50
        · refine lv_iload_n hx hb dX1_number_43 rfl (lv_at hl 0 rfl) ?_
          refine lv_bipush (v := iI (57)) hx hb dX1_number_44 (by decide) ?_
          refine z_icmp_le cx (tgt := 51) dX1_number_46 (by decide) (by omega) (fun c46 => ?_) (fun c46 => ?_)
          · refine lv_bipush (v := iI (10)) hx hb dX1_number_51 (by decide) ?_
            refine lv_iload_n hx hb dX1_number_53 rfl (lv_at hl 2 rfl) ?_
            refine z_imul cx (z := 10 * v) dX1_number_54 (by omega) ?_
            refine lv_iload_n hx hb dX1_number_55 rfl (lv_at hl 0 rfl) ?_
            refine z_iadd cx (z := 10 * v + c9) dX1_number_56 (by omega) ?_
            refine lv_bipush (v := iI (48)) hx hb dX1_number_57 (by decide) ?_
            refine z_isub cx (z := 10 * v + c9 - 48) dX1_number_59 (by omega) ?_
            refine lv_istore_n (lv' := [(1, .int (iI (10 * v + c9 - 48))), (3, .int (iI c9)), (0, .ref a), (2, .int (iI ↑j))]) hx hb dX1_number_60 rfl hl (by decide) rfl (fun ls hl => ?_)
            refine z_iinc cx (j := 3) (z := ((j + 1 : Nat) : Int)) (lv' := [(2, .int (iI ((j + 1 : Nat) : Int))), (1, .int (iI (10 * v + c9 - 48))), (3, .int (iI c9)), (0, .ref a)]) dX1_number_61 hl rfl (by omega) (by decide) rfl (fun ls hl => ?_)
            refine lv_goto (tgt := 23) hx hb dX1_number_64 (by decide) ?_
            have hdg : isDg c9 = true := isDg_iff.mpr (by omega)
            exact ih_lp (j + 1) (10 * v + c9 - 48) (by omega) (by omega) (by rw [sl_snoc hc9 (Nat.zero_le _), numV_s, ← hv]) (by rw [all_sl hc9 (Nat.zero_le _), hd, hdg]; rfl) _ _ _ _ _ hS  (by omega) (by omega) (lv_sub hl [3, 1, 0] rfl)
          · refine lv_iconst (v := iI (-1)) hx hb dX1_number_49 rfl ?_
            exact z_iret cx hQ rfl rfl (by rw [nd (by unfold isDg; exact decide_eq_false (by omega))]) hS (by omega) dX1_number_50
  refine lv_aload_n hx hb dX1_number_0 rfl (lv_at hl 0 rfl) ?_
  refine z_callV cx (j := 0) (m_J5_length G l _ P a xs (hB.ext (Ext.ofS hS)) (h0.ext (Ext.ofS hS)) (mc := 0) (ms := 0)) (lw_V q156 q157 q158 q40 q159) (zrecvS cx hs) (by decide +kernel) rfl (rest := []) rfl hl (Nat.le_of_ble_eq_true rfl) (by decide) (by omega) dX1_number_1 hS (fun q h => Nat.le_trans hS.1 h) (fun v1 H locs hp1 hz9 hk9 hS => ?_)
  have hE9 := Ext.of hz9 hk9 (fun q h => h)
  subst hp1
  refine lv_iconst (v := iI (1)) hx hb dX1_number_4 rfl ?_
  refine z_icmp_lt cx (tgt := 17) dX1_number_5 (by decide) (by omega) (fun c5 => ?_) (fun c5 => ?_)
  · refine lv_iconst (v := iI (-1)) hx hb dX1_number_17 rfl ?_
    exact z_iret cx hQ rfl rfl (by rw [bad (by omega)]) hS (by omega) dX1_number_18
  · refine lv_aload_n hx hb dX1_number_8 rfl (lv_at hl 0 rfl) ?_
    refine z_callV cx (j := 0) (m_J5_length G l _ P a xs (hB.ext (Ext.ofS hS)) (h0.ext (Ext.ofS hS)) (mc := 0) (ms := 0)) (lw_V q156 q157 q158 q40 q159) (zrecvS cx (hs.ext (Ext.ofS hS))) (by decide +kernel) rfl (rest := []) rfl hl (Nat.le_of_ble_eq_true rfl) (by decide) (by omega) dX1_number_9 hS (fun q h => Nat.le_trans hS.1 h) (fun v9 H locs hp9 hz9 hk9 hS => ?_)
    have hE9 := Ext.of hz9 hk9 (fun q h => h)
    subst hp9
    refine lv_bipush (v := iI (6)) hx hb dX1_number_12 (by decide) ?_
    refine z_icmp_le cx (tgt := 19) dX1_number_14 (by decide) (by omega) (fun c14 => ?_) (fun c14 => ?_)
    · refine lv_iconst (v := iI (0)) hx hb dX1_number_19 rfl ?_
      refine lv_istore_n (lv' := [(1, .int (iI 0)), (0, .ref a)]) hx hb dX1_number_20 rfl hl (by decide) rfl (fun ls hl => ?_)
      refine lv_iconst (v := iI (0)) hx hb dX1_number_21 rfl ?_
      refine lv_istore_n (lv' := [(2, .int (iI 0)), (1, .int (iI 0)), (0, .ref a)]) hx hb dX1_number_22 rfl hl (by decide) rfl (fun ls hl => ?_)
      exact lp _ 0 0 (Nat.lt_succ_self _) (by omega) (by rw [sl_nil (Nat.le_refl 0)]; rfl) (by rw [sl_nil (Nat.le_refl 0)]; rfl) _ _ _ _ _ hS  (by omega) (by omega) (lv_sub hl [2, 1, 0] rfl)
    · refine lv_iconst (v := iI (-1)) hx hb dX1_number_17 rfl ?_
      exact z_iret cx hQ rfl rfl (by rw [bad (by omega)]) hS (by omega) dX1_number_18
set_option maxHeartbeats 4000000 in
set_option maxRecDepth 100000 in
theorem m_X1_isName (G : zE) (l : Launch) (H0 : Heap) (P : Nat → Prop) (a : Nat) (xs : List Int) (hB : Bh G H0) (h0 : St G P H0 a xs) {mc ms : Nat}  : zR G l yX1_isName (ws_ yX1_isName cX1_isName 4 (some FieldType.boolean)) 4 85 mc ms [.ref a] H0 (fun r _ => r = .int (iI (b2i (isNm xs)))) (Pur H0) := by
  refine zR.start (cc := cX1_isName) (by decide) (Nat.le_of_ble_eq_true rfl) ?_
  intro p e s m args below meth c Q cx hQ hmn ls hl
  have hx := cx.1
  have hb := cx.2.1
  have hS : va_S (Pur H0) H0 H0 [] := va_S.rf
  have hl : lv_has ls 4 [(0, .ref a)] := hl
  have h3 := h0
  obtain ⟨-, hch, hln, b0, -, hs, -⟩ := h3
  have lp : ∀ (fuel : Nat) (j : Nat) (g : Bool), (xs.length - j) < fuel → (j ≤ xs.length) → (g = (decide (0 < xs.length ∧ xs.length ≤ 16) && (sl xs 0 j).all isNS)) → ∀ (H : Heap) (locs : List Loc) (ls : Array Slot) (k n : Nat), va_S (Pur H0) H0 H locs → (k ≤ mc) → (n ≤ ms) → lv_has ls 4 [(0, .ref a), (1, .int (iI (b2i g))), (2, .int (iI ↑j))] → W p l e ⟨4, mc, ms, 85⟩ s m args below meth c H locs k n Q (F0 m 24 ls []) := by
    intro fuel
    induction fuel with
    | zero => intro j g hf9; exact absurd hf9 (Nat.not_lt_zero _)
    | succ fuel ih_lp =>
      intro j g hf9 hj hg H locs ls k n hS  hr1 hr2 hl
      have hgr := b2i_rg g
      refine lv_iload_n hx hb dX1_isName_24 rfl (lv_at hl 2 rfl) ?_
      refine lv_aload_n hx hb dX1_isName_25 rfl (lv_at hl 0 rfl) ?_
      refine z_callV cx (j := 0) (m_J5_length G l _ P a xs (hB.ext (Ext.ofS hS)) (h0.ext (Ext.ofS hS)) (mc := 0) (ms := 0)) (lw_V q156 q157 q158 q40 q159) (zrecvS cx (hs.ext (Ext.ofS hS))) (by decide +kernel) rfl (rest := [.int (iI ↑j)]) rfl hl (Nat.le_of_ble_eq_true rfl) (by decide) (by omega) dX1_isName_26 hS (fun q h => Nat.le_trans hS.1 h) (fun v26 H locs hp26 hz9 hk9 hS => ?_)
      have hE9 := Ext.of hz9 hk9 (fun q h => h)
      subst hp26
      refine z_icmp_ge cx (tgt := 96) dX1_isName_29 (by decide) (by omega) (fun c29 => ?_) (fun c29 => ?_)
      · have e1 : j = xs.length := by omega
        subst e1
        rw [sl_all] at hg
        refine lv_iload_n hx hb dX1_isName_96 rfl (lv_at hl 1 rfl) ?_
        exact z_iret cx hQ rfl (b2i_nar _) (by rw [hg, isNm, Bool.and_comm]) hS (by omega) dX1_isName_97
      · obtain ⟨c9, hc9⟩ := gcx (show j < xs.length by omega)
        have hcr := hch c9 (List.mem_of_getElem? hc9)
        refine lv_aload_n hx hb dX1_isName_32 rfl (lv_at hl 0 rfl) ?_
        refine lv_iload_n hx hb dX1_isName_33 rfl (lv_at hl 2 rfl) ?_
        refine z_callV cx (j := 1) (m_J5_charAt G l _ P a j xs c9 (hB.ext (Ext.ofS hS)) (h0.ext (Ext.ofS hS)) hc9 (mc := 0) (ms := 0)) (lw_V q165 q166 q167 q40 q168) (zrecvS cx (hs.ext (Ext.ofS hS))) (by decide +kernel) rfl (rest := []) rfl hl (Nat.le_of_ble_eq_true rfl) (by decide) (by omega) dX1_isName_34 hS (fun q h => Nat.le_trans hS.1 h) (fun v34 H locs hp34 hz9 hk9 hS => ?_)
        have hE9 := Ext.of hz9 hk9 (fun q h => h)
        subst hp34
        refine lv_istore_n (lv' := [(3, .int (iI c9)), (0, .ref a), (1, .int (iI (b2i g))), (2, .int (iI ↑j))]) hx hb dX1_isName_37 rfl hl (by decide) rfl (fun ls hl => ?_)
        have l89 : ∀ (fuel : Nat) (z : Int), 0 < fuel → (z = b2i (g && isNS c9)) → ∀ (H : Heap) (locs : List Loc) (ls : Array Slot) (k n : Nat), va_S (Pur H0) H0 H locs → (k ≤ mc) → (n ≤ ms) → lv_has ls 4 [(0, .ref a), (1, .int (iI (b2i g))), (2, .int (iI ↑j)), (3, .int (iI c9))] → W p l e ⟨4, mc, ms, 85⟩ s m args below meth c H locs k n Q (F0 m 89 ls [.int (iI z)]) := by
          intro fuel
          induction fuel with
          | zero => intro z hf9; exact absurd hf9 (Nat.not_lt_zero _)
          | succ fuel ih_l89 =>
            intro z hf9 hz H locs ls k n hS  hr1 hr2 hl
            subst hz
            refine lv_istore_n (lv' := [(1, .int (iI (b2i (g && isNS c9)))), (0, .ref a), (2, .int (iI ↑j)), (3, .int (iI c9))]) hx hb dX1_isName_89 rfl hl (by decide) rfl (fun ls hl => ?_)
            refine z_iinc cx (j := 2) (z := ((j + 1 : Nat) : Int)) (lv' := [(2, .int (iI ((j + 1 : Nat) : Int))), (1, .int (iI (b2i (g && isNS c9)))), (0, .ref a), (3, .int (iI c9))]) dX1_isName_90 hl rfl (by omega) (by decide) rfl (fun ls hl => ?_)
            refine lv_goto (tgt := 24) hx hb dX1_isName_93 (by decide) ?_
            exact ih_lp (j + 1) (g && isNS c9) (by omega) (by omega) (by rw [hg, all_sl hc9 (Nat.zero_le _), Bool.and_assoc]) _ _ _ _ _ hS  (by omega) (by omega) (lv_sub hl [2, 1, 0] rfl)
        have yes : g = true → isNS c9 = true → (1 : Int) = b2i (g && isNS c9) := fun h1 h2 => by rw [h1, h2]; rfl
        have no : isNS c9 = false → (0 : Int) = b2i (g && isNS c9) := fun h2 => by rw [h2, Bool.and_false]; rfl
        refine lv_iload_n hx hb dX1_isName_38 rfl (lv_at hl 2 rfl) ?_
        refine z_if_eq cx (tgt := 88) dX1_isName_39 (by decide) (by omega) (fun c39 => ?_) (fun c39 => ?_)
        · have hg0 : g = false := b2i_1.mp c39
          refine lv_iconst (v := iI (0)) hx hb dX1_isName_88 rfl ?_
          exact l89 _ 0 (Nat.lt_succ_self _) (by rw [hg0]; rfl) _ _ _ _ _ hS  (by omega) (by omega) (lv_sub hl [1, 2, 3, 0] rfl)
        · have hg1 : g = true := by cases g with | true => rfl | false => exact absurd b2i_f c39
          have l54 : ∀ (fuel : Nat) , 0 < fuel → (¬ (97 ≤ c9 ∧ c9 ≤ 122)) → ∀ (H : Heap) (locs : List Loc) (ls : Array Slot) (k n : Nat), va_S (Pur H0) H0 H locs → (k ≤ mc) → (n ≤ ms) → lv_has ls 4 [(0, .ref a), (1, .int (iI (b2i g))), (2, .int (iI ↑j)), (3, .int (iI c9))] → W p l e ⟨4, mc, ms, 85⟩ s m args below meth c H locs k n Q (F0 m 54 ls []) := by
            intro fuel
            induction fuel with
            | zero => intro  hf9; exact absurd hf9 (Nat.not_lt_zero _)
            | succ fuel ih_l54 =>
              intro  hf9 hx1 H locs ls k n hS  hr1 hr2 hl
              have l66 : ∀ (fuel : Nat) , 0 < fuel → (¬ (65 ≤ c9 ∧ c9 ≤ 90)) → ∀ (H : Heap) (locs : List Loc) (ls : Array Slot) (k n : Nat), va_S (Pur H0) H0 H locs → (k ≤ mc) → (n ≤ ms) → lv_has ls 4 [(0, .ref a), (1, .int (iI (b2i g))), (2, .int (iI ↑j)), (3, .int (iI c9))] → W p l e ⟨4, mc, ms, 85⟩ s m args below meth c H locs k n Q (F0 m 66 ls []) := by
                intro fuel
                induction fuel with
                | zero => intro  hf9; exact absurd hf9 (Nat.not_lt_zero _)
                | succ fuel ih_l66 =>
                  intro  hf9 hx2 H locs ls k n hS  hr1 hr2 hl
                  have l78 : ∀ (fuel : Nat) , 0 < fuel → (¬ (48 ≤ c9 ∧ c9 ≤ 57)) → ∀ (H : Heap) (locs : List Loc) (ls : Array Slot) (k n : Nat), va_S (Pur H0) H0 H locs → (k ≤ mc) → (n ≤ ms) → lv_has ls 4 [(0, .ref a), (1, .int (iI (b2i g))), (2, .int (iI ↑j)), (3, .int (iI c9))] → W p l e ⟨4, mc, ms, 85⟩ s m args below meth c H locs k n Q (F0 m 78 ls []) := by
                    intro fuel
                    induction fuel with
                    | zero => intro  hf9; exact absurd hf9 (Nat.not_lt_zero _)
                    | succ fuel ih_l78 =>
                      intro  hf9 hx3 H locs ls k n hS  hr1 hr2 hl
                      refine lv_iload_n hx hb dX1_isName_78 rfl (lv_at hl 3 rfl) ?_
                      refine lv_bipush (v := iI (45)) hx hb dX1_isName_79 (by decide) ?_
                      refine z_icmp_ne cx (tgt := 88) dX1_isName_81 (by decide) (by omega) (fun c81 => ?_) (fun c81 => ?_)
                      · refine lv_iconst (v := iI (0)) hx hb dX1_isName_88 rfl ?_
                        exact l89 _ 0 (Nat.lt_succ_self _) (no (by rw [Bool.eq_false_iff]; intro z; rw [isNS_iff] at z; omega)) _ _ _ _ _ hS  (by omega) (by omega) (lv_sub hl [0, 1, 2, 3] rfl)
                      · refine lv_iconst (v := iI (1)) hx hb dX1_isName_84 rfl ?_
                        refine lv_goto (tgt := 89) hx hb dX1_isName_85 (by decide) ?_
                        exact l89 _ 1 (Nat.lt_succ_self _) (yes hg1 (isNS_iff.mpr (by omega))) _ _ _ _ _ hS  (by omega) (by omega) (lv_sub hl [0, 1, 2, 3] rfl)
                  refine lv_iload_n hx hb dX1_isName_66 rfl (lv_at hl 3 rfl) ?_
                  refine lv_bipush (v := iI (48)) hx hb dX1_isName_67 (by decide) ?_
                  refine z_icmp_lt cx (tgt := 78) dX1_isName_69 (by decide) (by omega) (fun c69 => ?_) (fun c69 => ?_)
                  · exact l78 _  (Nat.lt_succ_self _) (by omega) _ _ _ _ _ hS  (by omega) (by omega) (lv_sub hl [0, 1, 2, 3] rfl)
                  · refine lv_iload_n hx hb dX1_isName_72 rfl (lv_at hl 3 rfl) ?_
                    refine lv_bipush (v := iI (57)) hx hb dX1_isName_73 (by decide) ?_
                    refine z_icmp_le cx (tgt := 84) dX1_isName_75 (by decide) (by omega) (fun c75 => ?_) (fun c75 => ?_)
                    · refine lv_iconst (v := iI (1)) hx hb dX1_isName_84 rfl ?_
                      refine lv_goto (tgt := 89) hx hb dX1_isName_85 (by decide) ?_
                      exact l89 _ 1 (Nat.lt_succ_self _) (yes hg1 (isNS_iff.mpr (by omega))) _ _ _ _ _ hS  (by omega) (by omega) (lv_sub hl [0, 1, 2, 3] rfl)
                    · exact l78 _  (Nat.lt_succ_self _) (by omega) _ _ _ _ _ hS  (by omega) (by omega) (lv_sub hl [0, 1, 2, 3] rfl)
              refine lv_iload_n hx hb dX1_isName_54 rfl (lv_at hl 3 rfl) ?_
              refine lv_bipush (v := iI (65)) hx hb dX1_isName_55 (by decide) ?_
              refine z_icmp_lt cx (tgt := 66) dX1_isName_57 (by decide) (by omega) (fun c57 => ?_) (fun c57 => ?_)
              · exact l66 _  (Nat.lt_succ_self _) (by omega) _ _ _ _ _ hS  (by omega) (by omega) (lv_sub hl [0, 1, 2, 3] rfl)
              · refine lv_iload_n hx hb dX1_isName_60 rfl (lv_at hl 3 rfl) ?_
                refine lv_bipush (v := iI (90)) hx hb dX1_isName_61 (by decide) ?_
                refine z_icmp_le cx (tgt := 84) dX1_isName_63 (by decide) (by omega) (fun c63 => ?_) (fun c63 => ?_)
                · refine lv_iconst (v := iI (1)) hx hb dX1_isName_84 rfl ?_
                  refine lv_goto (tgt := 89) hx hb dX1_isName_85 (by decide) ?_
                  exact l89 _ 1 (Nat.lt_succ_self _) (yes hg1 (isNS_iff.mpr (by omega))) _ _ _ _ _ hS  (by omega) (by omega) (lv_sub hl [0, 1, 2, 3] rfl)
                · exact l66 _  (Nat.lt_succ_self _) (by omega) _ _ _ _ _ hS  (by omega) (by omega) (lv_sub hl [0, 1, 2, 3] rfl)
          refine lv_iload_n hx hb dX1_isName_42 rfl (lv_at hl 0 rfl) ?_
          refine lv_bipush (v := iI (97)) hx hb dX1_isName_43 (by decide) ?_
          refine z_icmp_lt cx (tgt := 54) dX1_isName_45 (by decide) (by omega) (fun c45 => ?_) (fun c45 => ?_)
          · exact l54 _  (Nat.lt_succ_self _) (by omega) _ _ _ _ _ hS  (by omega) (by omega) (lv_sub hl [1, 2, 3, 0] rfl)
          · refine lv_iload_n hx hb dX1_isName_48 rfl (lv_at hl 0 rfl) ?_
            refine lv_bipush (v := iI (122)) hx hb dX1_isName_49 (by decide) ?_
            refine z_icmp_le cx (tgt := 84) dX1_isName_51 (by decide) (by omega) (fun c51 => ?_) (fun c51 => ?_)
            · refine lv_iconst (v := iI (1)) hx hb dX1_isName_84 rfl ?_
              refine lv_goto (tgt := 89) hx hb dX1_isName_85 (by decide) ?_
              exact l89 _ 1 (Nat.lt_succ_self _) (yes hg1 (isNS_iff.mpr (by omega))) _ _ _ _ _ hS  (by omega) (by omega) (lv_sub hl [1, 2, 3, 0] rfl)
            · exact l54 _  (Nat.lt_succ_self _) (by omega) _ _ _ _ _ hS  (by omega) (by omega) (lv_sub hl [1, 2, 3, 0] rfl)
  have l21 : ∀ (fuel : Nat) (z : Int), 0 < fuel → (z = b2i (decide (0 < xs.length ∧ xs.length ≤ 16))) → ∀ (H : Heap) (locs : List Loc) (ls : Array Slot) (k n : Nat), va_S (Pur H0) H0 H locs → (k ≤ mc) → (n ≤ ms) → lv_has ls 4 [(0, .ref a)] → W p l e ⟨4, mc, ms, 85⟩ s m args below meth c H locs k n Q (F0 m 21 ls [.int (iI z)]) := by
    intro fuel
    induction fuel with
    | zero => intro z hf9; exact absurd hf9 (Nat.not_lt_zero _)
    | succ fuel ih_l21 =>
      intro z hf9 hz H locs ls k n hS  hr1 hr2 hl
      subst hz
      refine lv_istore_n (lv' := [(1, .int (iI (b2i (decide (0 < xs.length ∧ xs.length ≤ 16))))), (0, .ref a)]) hx hb dX1_isName_21 rfl hl (by decide) rfl (fun ls hl => ?_)
      refine lv_iconst (v := iI (0)) hx hb dX1_isName_22 rfl ?_
      refine lv_istore_n (lv' := [(2, .int (iI 0)), (1, .int (iI (b2i (decide (0 < xs.length ∧ xs.length ≤ 16))))), (0, .ref a)]) hx hb dX1_isName_23 rfl hl (by decide) rfl (fun ls hl => ?_)
      exact lp _ 0 (decide (0 < xs.length ∧ xs.length ≤ 16)) (Nat.lt_succ_self _) (Nat.zero_le _) (by rw [sl_nil (Nat.le_refl 0)]; simp) _ _ _ _ _ hS  (by omega) (by omega) (lv_sub hl [2, 1, 0] rfl)
  refine lv_aload_n hx hb dX1_isName_0 rfl (lv_at hl 0 rfl) ?_
  refine z_callV cx (j := 0) (m_J5_length G l _ P a xs (hB.ext (Ext.ofS hS)) (h0.ext (Ext.ofS hS)) (mc := 0) (ms := 0)) (lw_V q156 q157 q158 q40 q159) (zrecvS cx hs) (by decide +kernel) rfl (rest := []) rfl hl (Nat.le_of_ble_eq_true rfl) (by decide) (by omega) dX1_isName_1 hS (fun q h => Nat.le_trans hS.1 h) (fun v1 H locs hp1 hz9 hk9 hS => ?_)
  have hE9 := Ext.of hz9 hk9 (fun q h => h)
  subst hp1
  refine z_if_le cx (tgt := 20) dX1_isName_4 (by decide) (by omega) (fun c4 => ?_) (fun c4 => ?_)
  · refine lv_iconst (v := iI (0)) hx hb dX1_isName_20 rfl ?_
    exact l21 _ 0 (Nat.lt_succ_self _) (by rw [decide_eq_false (by omega)]; rfl) _ _ _ _ _ hS  (by omega) (by omega) (lv_sub hl [0] rfl)
  · refine lv_aload_n hx hb dX1_isName_7 rfl (lv_at hl 0 rfl) ?_
    refine z_callV cx (j := 0) (m_J5_length G l _ P a xs (hB.ext (Ext.ofS hS)) (h0.ext (Ext.ofS hS)) (mc := 0) (ms := 0)) (lw_V q156 q157 q158 q40 q159) (zrecvS cx (hs.ext (Ext.ofS hS))) (by decide +kernel) rfl (rest := []) rfl hl (Nat.le_of_ble_eq_true rfl) (by decide) (by omega) dX1_isName_8 hS (fun q h => Nat.le_trans hS.1 h) (fun v8 H locs hp8 hz9 hk9 hS => ?_)
    have hE9 := Ext.of hz9 hk9 (fun q h => h)
    subst hp8
    refine lv_bipush (v := iI (16)) hx hb dX1_isName_11 (by decide) ?_
    refine z_icmp_gt cx (tgt := 20) dX1_isName_13 (by decide) (by omega) (fun c13 => ?_) (fun c13 => ?_)
    · refine lv_iconst (v := iI (0)) hx hb dX1_isName_20 rfl ?_
      exact l21 _ 0 (Nat.lt_succ_self _) (by rw [decide_eq_false (by omega)]; rfl) _ _ _ _ _ hS  (by omega) (by omega) (lv_sub hl [0] rfl)
    · refine lv_iconst (v := iI (1)) hx hb dX1_isName_16 rfl ?_
      refine lv_goto (tgt := 21) hx hb dX1_isName_17 (by decide) ?_
      exact l21 _ 1 (Nat.lt_succ_self _) (by rw [decide_eq_true (by omega)]; rfl) _ _ _ _ _ hS  (by omega) (by omega) (lv_sub hl [0] rfl)
