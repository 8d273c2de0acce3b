/-! ===== the component: Thing ===== -/
set_option maxHeartbeats 4000000 in
set_option maxRecDepth 100000 in
theorem m_X7_init (G : zE) (l : Launch) (H0 : Heap) (t v4 v5 v6 : Nat) (z : Int) (h : Ob G H0 t 4 [.int (iI 0), .null, .null, .null, .null, .int (iI 0), .int (iI 0), .int (iI 0), .int (iI 0)]) {mc ms : Nat}  : zV G l yX7_init (ws_ yX7_init cX7_init 5 (none)) 1 20 mc ms [.ref t, .int (iI z), .ref v4, .ref v5, .ref v6] H0 (fun H1 => Ob G H1 t 4 [.int (iI z), .ref v4, .ref v5, .ref v6, .null, .int (iI 0), .int (iI 0), .int (iI 0), .int (iI 0)]) (fun q => H0.size ≤ q ∨ q = t) := by
  refine zV.start (cc := cX7_init) (by decide) (Nat.le_of_ble_eq_true rfl) ?_
  intro p e s m args below meth c Q cx hQ hmn ls hl
  have hx := cx.1
  have hb := cx.2.1
  have hS : va_S (fun q => H0.size ≤ q ∨ q = t) H0 H0 [] := va_S.rf
  have hl : lv_has ls 5 [(0, .ref t), (1, .int (iI z)), (2, .ref v4), (3, .ref v5), (4, .ref v6)] := hl
  refine lv_aload_n hx hb dX7_init_0 rfl (lv_at hl 0 rfl) ?_
  refine z_obj cx q891 q70 q71 hl (Nat.le_of_ble_eq_true rfl) (by decide) dX7_init_1 ?_
  refine lv_aload_n hx hb dX7_init_4 rfl (lv_at hl 0 rfl) ?_
  refine lv_iload_n hx hb dX7_init_5 rfl (lv_at hl 1 rfl) ?_
  refine z_putF cx hmn (k0 := 0) (vs' := [.int (iI z), .null, .null, .null, .null, .int (iI 0), .int (iI 0), .int (iI 0), .int (iI 0)]) h (Or.inr rfl) hS rfl in_X7 tyX7_ok nmX7 (by decide) q892 rfl rfl rfl rfl (Nat.le_of_ble_eq_true rfl) ⟨rfl, rfl⟩ dX7_init_6 (fun H locs h hz9 hq9 hS => ?_)
  refine lv_aload_n hx hb dX7_init_9 rfl (lv_at hl 0 rfl) ?_
  refine lv_aload_n hx hb dX7_init_10 rfl (lv_at hl 2 rfl) ?_
  refine z_putF cx hmn (k0 := 1) (vs' := [.int (iI z), .ref v4, .null, .null, .null, .int (iI 0), .int (iI 0), .int (iI 0), .int (iI 0)]) h (Or.inr rfl) hS rfl in_X7 tyX7_ok nmX7 (by decide) q894 rfl rfl rfl rfl (Nat.le_of_ble_eq_true rfl) ⟨rfl, rfl⟩ dX7_init_11 (fun H locs h hz9 hq9 hS => ?_)
  refine lv_aload_n hx hb dX7_init_14 rfl (lv_at hl 0 rfl) ?_
  refine lv_aload_n hx hb dX7_init_15 rfl (lv_at hl 3 rfl) ?_
  refine z_putF cx hmn (k0 := 2) (vs' := [.int (iI z), .ref v4, .ref v5, .null, .null, .int (iI 0), .int (iI 0), .int (iI 0), .int (iI 0)]) h (Or.inr rfl) hS rfl in_X7 tyX7_ok nmX7 (by decide) q896 rfl rfl rfl rfl (Nat.le_of_ble_eq_true rfl) ⟨rfl, rfl⟩ dX7_init_16 (fun H locs h hz9 hq9 hS => ?_)
  refine lv_aload_n hx hb dX7_init_19 rfl (lv_at hl 0 rfl) ?_
  refine lv_aload hx hb dX7_init_20 (lv_at hl 4 rfl) ?_
  refine z_putF cx hmn (k0 := 3) (vs' := [.int (iI z), .ref v4, .ref v5, .ref v6, .null, .int (iI 0), .int (iI 0), .int (iI 0), .int (iI 0)]) h (Or.inr rfl) hS rfl in_X7 tyX7_ok nmX7 (by decide) q898 rfl rfl rfl rfl (Nat.le_of_ble_eq_true rfl) ⟨rfl, rfl⟩ dX7_init_22 (fun H locs h hz9 hq9 hS => ?_)
  exact z_vret cx hQ rfl h hS (by omega) dX7_init_25
set_option maxHeartbeats 4000000 in
set_option maxRecDepth 100000 in
theorem m_X7_ageAt (G : zE) (l : Launch) (H0 : Heap) (t : Nat) (ti age since : Int) (u0 u1 u2 u3 u4 u5 u8 : Value) (h : Ob G H0 t 4 [u0, u1, u2, u3, u4, u5, .int (iI age), .int (iI since), u8]) {mc ms : Nat}  : zR G l yX7_ageAt (ws_ yX7_ageAt cX7_ageAt 2 (some FieldType.int)) 0 0 mc ms [.ref t, .int (iI ti)] H0 (fun r _ => r = .int (iI (age + ti - since))) (Pur H0) := by
  refine zR.start (cc := cX7_ageAt) (by decide) (Nat.le_of_ble_eq_true rfl) ?_
  intro p e s m args below meth c Q cx hQ hmn ls hl
  have hx := cx.1
  have hb := cx.2.1
  have hS : va_S (Pur H0) H0 H0 [] := va_S.rf
  have hl : lv_has ls 2 [(0, .ref t), (1, .int (iI ti))] := hl
  refine lv_aload_n hx hb dX7_ageAt_0 rfl (lv_at hl 0 rfl) ?_
  refine z_get cx (k0 := 6) h rfl in_X7 (by decide) q904 rfl rfl dX7_ageAt_1 ?_
  refine lv_iload_n hx hb dX7_ageAt_4 rfl (lv_at hl 1 rfl) ?_
  refine z_iadd cx (z := age + ti) dX7_ageAt_5 (by omega) ?_
  refine lv_aload_n hx hb dX7_ageAt_6 rfl (lv_at hl 0 rfl) ?_
  refine z_get cx (k0 := 7) h rfl in_X7 (by decide) q905 rfl rfl dX7_ageAt_7 ?_
  refine z_isub cx (z := age + ti - since) dX7_ageAt_10 (by omega) ?_
  exact z_iret cx hQ rfl rfl rfl hS (by omega) dX7_ageAt_11
set_option maxHeartbeats 4000000 in
set_option maxRecDepth 100000 in
theorem m_X7_isFresh (G : zE) (l : Launch) (H0 : Heap) (P : Nat → Prop) (t co : Nat) (kv : KV) (ti life age since : Int) (u0 u1 u2 u3 u8 : Value) (hB : Bh G H0) (h : Ob G H0 t 4 [u0, u1, u2, u3, .ref co, .int (iI life), .int (iI age), .int (iI since), u8]) (hco : Ct G P H0 co kv) (hr : rg life ∧ rg (age + ti - since)) {mc ms : Nat}  : zR G l yX7_isFresh (ws_ yX7_isFresh cX7_isFresh 2 (some FieldType.boolean)) 5 107 mc ms [.ref t, .int (iI ti)] H0 (fun r _ => r = .int (iI (b2i (frX kv life age since ti)))) (Pur H0) := by
  refine zR.start (cc := cX7_isFresh) (by decide) (Nat.le_of_ble_eq_true rfl) ?_
  intro p e s m args below meth c Q cx hQ hmn ls hl
  have hx := cx.1
  have hb := cx.2.1
  have hS : va_S (Pur H0) H0 H0 [] := va_S.rf
  have hl : lv_has ls 2 [(0, .ref t), (1, .int (iI ti))] := hl
  obtain ⟨-, nl, ul, hc9, -⟩ := id hco
  refine lv_aload_n hx hb dX7_isFresh_0 rfl (lv_at hl 0 rfl) ?_
  refine z_get cx (k0 := 4) h rfl in_X7 (by decide) q900 rfl rfl dX7_isFresh_1 ?_
  obtain ⟨la4, ltx, lR, lS4⟩ := lit_X7_65 cx.kk.1
  refine z_ldcS cx lR dX7_isFresh_4 ?_
  refine z_callV cx (j := 1) (m_X3_has G l _ P (Old G) co la4 kv nNc (hB.ext (Ext.ofS hS)) (hco.ext cx.kk.1 (Ext.ofS hS)) (lS4.old (hB.ext (Ext.ofS hS))) (mc := 0) (ms := 0)) (lw_V q853 q834 q835 q37 q836) (zrecv cx hc9 rfl) (by decide +kernel) rfl (rest := []) rfl hl (Nat.le_of_ble_eq_true rfl) (by decide) (by omega) dX7_isFresh_6 hS (fun q h => Nat.le_trans hS.1 h) (fun v6 H locs hp6 hz9 hk9 hS => ?_)
  have hE9 := Ext.of hz9 hk9 (fun q h => h)
  have hb6 := b2i_rg (decide (ctF kv nNc ≠ -1))
  subst hp6
  refine z_if_ne cx (tgt := 28) dX7_isFresh_9 (by decide) (by omega) (fun c9 => ?_) (fun c9 => ?_)
  · have hn := b2i_T c9
    refine lv_iconst (v := iI (0)) hx hb dX7_isFresh_28 rfl ?_
    exact z_iret cx hQ rfl rfl (by rw [frX, decide_eq_false hn]; rfl) hS (by omega) dX7_isFresh_29
  · have hn := Classical.not_not.mp (b2i_F c9)
    refine lv_aload_n hx hb dX7_isFresh_12 rfl (lv_at hl 0 rfl) ?_
    refine lv_iload_n hx hb dX7_isFresh_13 rfl (lv_at hl 1 rfl) ?_
    refine z_callV cx (j := 1) (m_X7_ageAt G l _ t ti age since u0 u1 u2 u3 (.ref co) (.int (iI life)) u8 (h.ext (Ext.ofS hS)) (mc := 0) (ms := 0)) (lw_V q854 q829 q830 q60 q831) (zrecv cx (h.ext (Ext.ofS hS)) rfl) (by decide +kernel) rfl (rest := []) rfl hl (Nat.le_of_ble_eq_true rfl) (by decide) (by omega) dX7_isFresh_14 hS (fun q h => Nat.le_trans hS.1 h) (fun v14 H locs hp14 hz9 hk9 hS => ?_)
    have hE9 := Ext.of hz9 hk9 (fun q h => h)
    subst hp14
    refine lv_aload_n hx hb dX7_isFresh_17 rfl (lv_at hl 0 rfl) ?_
    refine z_get cx (k0 := 5) (h.ext (Ext.ofS hS)) rfl in_X7 (by decide) q902 rfl rfl dX7_isFresh_18 ?_
    refine z_icmp_ge cx (tgt := 28) dX7_isFresh_21 (by decide) (by omega) (fun c21 => ?_) (fun c21 => ?_)
    · refine lv_iconst (v := iI (0)) hx hb dX7_isFresh_28 rfl ?_
      exact z_iret cx hQ rfl rfl (by rw [frX, decide_eq_true hn, decide_eq_false (by omega)]; rfl) hS (by omega) dX7_isFresh_29
    · refine lv_iconst (v := iI (1)) hx hb dX7_isFresh_24 rfl ?_
      refine lv_goto (tgt := 29) hx hb dX7_isFresh_25 (by decide) ?_
      exact z_iret cx hQ rfl rfl (by rw [frX, decide_eq_true hn, decide_eq_true (by omega)]; rfl) hS (by omega) dX7_isFresh_29
set_option maxHeartbeats 4000000 in
set_option maxRecDepth 100000 in
theorem m_X7_isStrict (G : zE) (l : Launch) (H0 : Heap) (P : Nat → Prop) (t co : Nat) (kv : KV) (u0 u1 u2 u3 u5 u6 u7 u8 : Value) (hB : Bh G H0) (h : Ob G H0 t 4 [u0, u1, u2, u3, .ref co, u5, u6, u7, u8]) (hco : Ct G P H0 co kv) {mc ms : Nat}  : zR G l yX7_isStrict (ws_ yX7_isStrict cX7_isStrict 1 (some FieldType.boolean)) 5 107 mc ms [.ref t] H0 (fun r _ => r = .int (iI (b2i (stX kv)))) (Pur H0) := by
  refine zR.start (cc := cX7_isStrict) (by decide) (Nat.le_of_ble_eq_true rfl) ?_
  intro p e s m args below meth c Q cx hQ hmn ls hl
  have hx := cx.1
  have hb := cx.2.1
  have hS : va_S (Pur H0) H0 H0 [] := va_S.rf
  have hl : lv_has ls 1 [(0, .ref t)] := hl
  obtain ⟨-, nl, ul, hc9, -⟩ := id hco
  have l48 : ∀ (fuel : Nat) , 0 < fuel → (stX kv = true) → ∀ (H : Heap) (locs : List Loc) (ls : Array Slot) (k n : Nat), va_S (Pur H0) H0 H locs → (k ≤ mc) → (n ≤ ms) → lv_has ls 1 [(0, .ref t)] → W p l e ⟨5, mc, ms, 107⟩ s m args below meth c H locs k n Q (F0 m 48 ls []) := by
    intro fuel
    induction fuel with
    | zero => intro  hf9; exact absurd hf9 (Nat.not_lt_zero _)
    | succ fuel ih_l48 =>
      intro  hf9 hs9 H locs ls k n hS  hr1 hr2 hl
      refine lv_iconst (v := iI (1)) hx hb dX7_isStrict_48 rfl ?_
      refine lv_goto (tgt := 53) hx hb dX7_isStrict_49 (by decide) ?_
      exact z_iret cx hQ rfl rfl (by rw [hs9]; rfl) hS (by omega) dX7_isStrict_53
  refine lv_aload_n hx hb dX7_isStrict_0 rfl (lv_at hl 0 rfl) ?_
  refine z_get cx (k0 := 4) h rfl in_X7 (by decide) q900 rfl rfl dX7_isStrict_1 ?_
  obtain ⟨la4, ltx, lR, lS4⟩ := lit_X7_65 cx.kk.1
  refine z_ldcS cx lR dX7_isStrict_4 ?_
  refine z_callV cx (j := 1) (m_X3_has G l _ P (Old G) co la4 kv nNc (hB.ext (Ext.ofS hS)) (hco.ext cx.kk.1 (Ext.ofS hS)) (lS4.old (hB.ext (Ext.ofS hS))) (mc := 0) (ms := 0)) (lw_V q853 q834 q835 q37 q836) (zrecv cx hc9 rfl) (by decide +kernel) rfl (rest := []) rfl hl (Nat.le_of_ble_eq_true rfl) (by decide) (by omega) dX7_isStrict_6 hS (fun q h => Nat.le_trans hS.1 h) (fun v6 H locs hp6 hz9 hk9 hS => ?_)
  have hE9 := Ext.of hz9 hk9 (fun q h => h)
  have hb6 := b2i_rg (decide (ctF kv nNc ≠ -1))
  subst hp6
  refine z_if_ne cx (tgt := 48) dX7_isStrict_9 (by decide) (by omega) (fun c9 => ?_) (fun c9 => ?_)
  · exact l48 _  (Nat.lt_succ_self _) (by rw [stX, decide_eq_true (b2i_T c9)]; rfl) _ _ _ _ _ hS  (by omega) (by omega) (lv_sub hl [0] rfl)
  · have h1 := b2i_F c9
    refine lv_aload_n hx hb dX7_isStrict_12 rfl (lv_at hl 0 rfl) ?_
    refine z_get cx (k0 := 4) (h.ext (Ext.ofS hS)) rfl in_X7 (by decide) q900 rfl rfl dX7_isStrict_13 ?_
    obtain ⟨la16, ltx, lR, lS16⟩ := lit_X7_75 cx.kk.1
    refine z_ldcS cx lR dX7_isStrict_16 ?_
    refine z_callV cx (j := 1) (m_X3_has G l _ P (Old G) co la16 kv nMr (hB.ext (Ext.ofS hS)) (hco.ext cx.kk.1 (Ext.ofS hS)) (lS16.old (hB.ext (Ext.ofS hS))) (mc := 0) (ms := 0)) (lw_V q853 q834 q835 q37 q836) (zrecv cx (hc9.ext (Ext.ofS hS)) rfl) (by decide +kernel) rfl (rest := []) rfl hl (Nat.le_of_ble_eq_true rfl) (by decide) (by omega) dX7_isStrict_18 hS (fun q h => Nat.le_trans hS.1 h) (fun v18 H locs hp18 hz9 hk9 hS => ?_)
    have hE9 := Ext.of hz9 hk9 (fun q h => h)
    have hb18 := b2i_rg (decide (ctF kv nMr ≠ -1))
    subst hp18
    refine z_if_ne cx (tgt := 48) dX7_isStrict_21 (by decide) (by omega) (fun c21 => ?_) (fun c21 => ?_)
    · exact l48 _  (Nat.lt_succ_self _) (by rw [stX, decide_eq_true (b2i_T c21), Bool.or_true]; rfl) _ _ _ _ _ hS  (by omega) (by omega) (lv_sub hl [0] rfl)
    · have h2 := b2i_F c21
      refine lv_aload_n hx hb dX7_isStrict_24 rfl (lv_at hl 0 rfl) ?_
      refine z_get cx (k0 := 4) (h.ext (Ext.ofS hS)) rfl in_X7 (by decide) q900 rfl rfl dX7_isStrict_25 ?_
      obtain ⟨la28, ltx, lR, lS28⟩ := lit_X7_77 cx.kk.1
      refine z_ldcS cx lR dX7_isStrict_28 ?_
      refine z_callV cx (j := 1) (m_X3_has G l _ P (Old G) co la28 kv nPr (hB.ext (Ext.ofS hS)) (hco.ext cx.kk.1 (Ext.ofS hS)) (lS28.old (hB.ext (Ext.ofS hS))) (mc := 0) (ms := 0)) (lw_V q853 q834 q835 q37 q836) (zrecv cx (hc9.ext (Ext.ofS hS)) rfl) (by decide +kernel) rfl (rest := []) rfl hl (Nat.le_of_ble_eq_true rfl) (by decide) (by omega) dX7_isStrict_30 hS (fun q h => Nat.le_trans hS.1 h) (fun v30 H locs hp30 hz9 hk9 hS => ?_)
      have hE9 := Ext.of hz9 hk9 (fun q h => h)
      have hb30 := b2i_rg (decide (ctF kv nPr ≠ -1))
      subst hp30
      refine z_if_ne cx (tgt := 48) dX7_isStrict_33 (by decide) (by omega) (fun c33 => ?_) (fun c33 => ?_)
      · exact l48 _  (Nat.lt_succ_self _) (by rw [stX, decide_eq_true (b2i_T c33), Bool.or_true]; rfl) _ _ _ _ _ hS  (by omega) (by omega) (lv_sub hl [0] rfl)
      · have h3 := b2i_F c33
        refine lv_aload_n hx hb dX7_isStrict_36 rfl (lv_at hl 0 rfl) ?_
        refine z_get cx (k0 := 4) (h.ext (Ext.ofS hS)) rfl in_X7 (by decide) q900 rfl rfl dX7_isStrict_37 ?_
        obtain ⟨la40, ltx, lR, lS40⟩ := lit_X7_30 cx.kk.1
        refine z_ldcS cx lR dX7_isStrict_40 ?_
        refine z_callV cx (j := 1) (m_X3_has G l _ P (Old G) co la40 kv nSm (hB.ext (Ext.ofS hS)) (hco.ext cx.kk.1 (Ext.ofS hS)) (lS40.old (hB.ext (Ext.ofS hS))) (mc := 0) (ms := 0)) (lw_V q853 q834 q835 q37 q836) (zrecv cx (hc9.ext (Ext.ofS hS)) rfl) (by decide +kernel) rfl (rest := []) rfl hl (Nat.le_of_ble_eq_true rfl) (by decide) (by omega) dX7_isStrict_42 hS (fun q h => Nat.le_trans hS.1 h) (fun v42 H locs hp42 hz9 hk9 hS => ?_)
        have hE9 := Ext.of hz9 hk9 (fun q h => h)
        have hb42 := b2i_rg (decide (ctF kv nSm ≠ -1))
        subst hp42
        refine z_if_eq cx (tgt := 52) dX7_isStrict_45 (by decide) (by omega) (fun c45 => ?_) (fun c45 => ?_)
        · have h4 := b2i_F c45
          refine lv_iconst (v := iI (0)) hx hb dX7_isStrict_52 rfl ?_
          exact z_iret cx hQ rfl rfl (by rw [stX, decide_eq_false h1, decide_eq_false h2, decide_eq_false h3, decide_eq_false h4]; rfl) hS (by omega) dX7_isStrict_53
        · exact l48 _  (Nat.lt_succ_self _) (by rw [stX, decide_eq_true (b2i_T c45), Bool.or_true]) _ _ _ _ _ hS  (by omega) (by omega) (lv_sub hl [0] rfl)
set_option maxHeartbeats 4000000 in
set_option maxRecDepth 100000 in
theorem m_X7_isLike (G : zE) (l : Launch) (H0 : Heap) (P P' : Nat → Prop) (t d v2 v3 w2 w3 : Nat) (p1 p2 : Int) (vy vy' vs vs' : List (List Int)) (u1 u4 u5 u6 u7 u8 y1 y4 y5 y6 y7 y8 : Value) (hB : Bh G H0) (h : Ob G H0 t 4 [.int (iI p1), u1, .ref v2, .ref v3, u4, u5, u6, u7, u8]) (h' : Ob G H0 d 4 [.int (iI p2), y1, .ref w2, .ref w3, y4, y5, y6, y7, y8]) (hr : rg p1 ∧ rg p2) (hv2 : LSt G P H0 v2 vy) (hv3 : LSt G P H0 v3 vs) (hw2 : LSt G P' H0 w2 vy') (hw3 : LSt G P' H0 w3 vs') (hne : v2 ≠ w2 ∧ v3 ≠ w3) (hn : (vy.length ≤ 100000 ∧ vy'.length ≤ 100000) ∧ vs.length ≤ 100000 ∧ vs'.length ≤ 100000) {mc ms : Nat}  : zR G l yX7_isLike (ws_ yX7_isLike cX7_isLike 2 (some FieldType.boolean)) 5 115 mc ms [.ref t, .ref d] H0 (fun r _ => r = .int (iI (b2i (decide (p1 = p2) && decide (vy = vy') && decide (vs = vs'))))) (Pur H0) := by
  refine zR.start (cc := cX7_isLike) (by decide) (Nat.le_of_ble_eq_true rfl) ?_
  intro p e s m args below meth c Q cx hQ hmn ls hl
  have hx := cx.1
  have hb := cx.2.1
  have hS : va_S (Pur H0) H0 H0 [] := va_S.rf
  have hl : lv_has ls 2 [(0, .ref t), (1, .ref d)] := hl
  obtain ⟨e2, r2, k2, m2, -, g2, -⟩ := id hv2
  obtain ⟨e3, r3, k3, m3, -, g3, -⟩ := id hv3
  refine lv_aload_n hx hb dX7_isLike_0 rfl (lv_at hl 0 rfl) ?_
  refine z_get cx (k0 := 0) h rfl in_X7 (by decide) q892 rfl rfl dX7_isLike_1 ?_
  refine lv_aload_n hx hb dX7_isLike_4 rfl (lv_at hl 1 rfl) ?_
  refine z_get cx (k0 := 0) h' rfl in_X7 (by decide) q892 rfl rfl dX7_isLike_5 ?_
  refine z_icmp_ne cx (tgt := 43) dX7_isLike_8 (by decide) (by omega) (fun c8 => ?_) (fun c8 => ?_)
  · refine lv_iconst (v := iI (0)) hx hb dX7_isLike_43 rfl ?_
    exact z_iret cx hQ rfl rfl (by rw [decide_eq_false c8]; rfl) hS (by omega) dX7_isLike_44
  · refine lv_aload_n hx hb dX7_isLike_11 rfl (lv_at hl 0 rfl) ?_
    refine z_get cx (k0 := 2) h rfl in_X7 (by decide) q896 rfl rfl dX7_isLike_12 ?_
    refine lv_aload_n hx hb dX7_isLike_15 rfl (lv_at hl 1 rfl) ?_
    refine z_get cx (k0 := 2) h' rfl in_X7 (by decide) q896 rfl rfl dX7_isLike_16 ?_
    refine z_callV cx (j := 1) (m_J2_equals G l _ P P' v2 w2 vy vy' (hB.ext (Ext.ofS hS)) hne.1 (hv2.ext cx.kk.1 (Ext.ofS hS)) (hw2.ext cx.kk.1 (Ext.ofS hS)) hn.1 (mc := 0) (ms := 0)) (lw_V q947 q948 q949 q35 q950) (zrecv cx g2 rfl) (by decide +kernel) rfl (rest := []) rfl hl (Nat.le_of_ble_eq_true rfl) (by decide) (by omega) dX7_isLike_19 hS (fun q h => Nat.le_trans hS.1 h) (fun v19 H locs hp19 hz9 hk9 hS => ?_)
    have hE9 := Ext.of hz9 hk9 (fun q h => h)
    have hb19 := b2i_rg (decide (vy = vy'))
    subst hp19
    refine z_if_eq cx (tgt := 43) dX7_isLike_22 (by decide) (by omega) (fun c22 => ?_) (fun c22 => ?_)
    · have h9 := b2i_F c22
      refine lv_iconst (v := iI (0)) hx hb dX7_isLike_43 rfl ?_
      exact z_iret cx hQ rfl rfl (by rw [decide_eq_false h9, Bool.and_false]; rfl) hS (by omega) dX7_isLike_44
    · have h9 := b2i_T c22
      refine lv_aload_n hx hb dX7_isLike_25 rfl (lv_at hl 0 rfl) ?_
      refine z_get cx (k0 := 3) (h.ext (Ext.ofS hS)) rfl in_X7 (by decide) q898 rfl rfl dX7_isLike_26 ?_
      refine lv_aload_n hx hb dX7_isLike_29 rfl (lv_at hl 1 rfl) ?_
      refine z_get cx (k0 := 3) (h'.ext (Ext.ofS hS)) rfl in_X7 (by decide) q898 rfl rfl dX7_isLike_30 ?_
      refine z_callV cx (j := 1) (m_J2_equals G l _ P P' v3 w3 vs vs' (hB.ext (Ext.ofS hS)) hne.2 (hv3.ext cx.kk.1 (Ext.ofS hS)) (hw3.ext cx.kk.1 (Ext.ofS hS)) hn.2 (mc := 0) (ms := 0)) (lw_V q947 q948 q949 q35 q950) (zrecv cx (g3.ext (Ext.ofS hS)) rfl) (by decide +kernel) rfl (rest := []) rfl hl (Nat.le_of_ble_eq_true rfl) (by decide) (by omega) dX7_isLike_33 hS (fun q h => Nat.le_trans hS.1 h) (fun v33 H locs hp33 hz9 hk9 hS => ?_)
      have hE9 := Ext.of hz9 hk9 (fun q h => h)
      have hb33 := b2i_rg (decide (vs = vs'))
      subst hp33
      refine z_if_eq cx (tgt := 43) dX7_isLike_36 (by decide) (by omega) (fun c36 => ?_) (fun c36 => ?_)
      · have h8 := b2i_F c36
        refine lv_iconst (v := iI (0)) hx hb dX7_isLike_43 rfl ?_
        exact z_iret cx hQ rfl rfl (by rw [decide_eq_false h8, Bool.and_false]; rfl) hS (by omega) dX7_isLike_44
      · have h8 := b2i_T c36
        refine lv_iconst (v := iI (1)) hx hb dX7_isLike_39 rfl ?_
        refine lv_goto (tgt := 44) hx hb dX7_isLike_40 (by decide) ?_
        exact z_iret cx hQ rfl rfl (by rw [decide_eq_true c8, decide_eq_true h9, decide_eq_true h8]; rfl) hS (by omega) dX7_isLike_44
