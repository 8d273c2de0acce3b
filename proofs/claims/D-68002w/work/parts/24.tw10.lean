/-! ===== the model: words and times of a thing, its use ===== -/
set_option maxHeartbeats 4000000 in
set_option maxRecDepth 100000 in
theorem m_X4_setWords (G : zE) (l : Launch) (H0 : Heap) (P : Nat → Prop) (x g : Nat) (r0 : Option Nat) (v : Option (List Int)) (f0 f1 f2 f3 f4 f5 f6 f7 f8 f9 f10 f11 : Value) (hg9 : Ob G H0 g 7 [f0, f1, f2, f3, f4, f5, f6, f7, f8, f9, f10, f11]) (hP : ¬ P g) (h1 : Orw G P H0 r0 v) (hcv : ochs v ∧ olen v 40000) {mc ms : Nat} (hmc : 5 * (1 + wC v) ≤ mc) (hms : 5 * (16 + wS v) ≤ ms) : zV G l yX4_setWords (ws_ yX4_setWords cX4_setWords 3 (none)) 5 115 mc ms [.ref x, .ref g, va_rf r0] H0 (fun H1 => Ob G H1 g 7 [f0, .int (iI (wrd v nSm)), .int (iI (wrd v nMa)), f3, f4, f5, .int (iI (b2i (hasW v nNc))), .int (iI (b2i (mka v))), f8, f9, f10, f11]) (fun q => H0.size ≤ q ∨ q = g) := by
  refine zV.start (cc := cX4_setWords) (by decide) (by cases r0 <;> exact (Nat.le_of_ble_eq_true rfl)) ?_
  intro p e s m args below meth c Q cx hQ hmn ls hl
  have hx := cx.1
  have hb := cx.2.1
  have hS : va_S (fun q => H0.size ≤ q ∨ q = g) H0 H0 [] := va_S.rf
  have hl : lv_has ls 3 [(0, .ref x), (1, .ref g), (2, va_rf r0)] := (by cases r0 <;> exact hl)
  have hwr := wrd_rg v nSm
  refine lv_aload_n hx hb dX4_setWords_0 rfl (lv_at hl 1 rfl) ?_
  refine z_aload_nq cx dX4_setWords_1 rfl (lv_at hl 2 rfl) ?_
  refine lv_ldc2 hx hb cx.wn (cx.ts _ q1343) dX4_setWords_2 ?_
  refine lv_lconst (v := 0) hx hb dX4_setWords_5 (by decide) ?_
  refine z_callS cx (j := 2) (m_X4_name G l _ 8299409953712596837 0 (mc := 1) (ms := 16) (Nat.le_refl _) (Nat.le_refl _)) (lw_S q1217 q1218 q57 q1219) (by decide +kernel) rfl (rest := [va_rf r0, .ref g]) rfl hl (by cases r0 <;> exact (Nat.le_of_ble_eq_true rfl)) (by decide) (by omega) dX4_setWords_6 hS (fun q h => Or.inl (Nat.le_trans hS.1 h)) (fun v6 H locs hp6 hz9 hk9 hS => ?_)
  have hE9 := Ext.of hz9 hk9 (fun q h => h)
  obtain ⟨b, rfl, -, Ab⟩ := hp6
  have hg9 := hg9.ext hE9
  have h1 := h1.kp (Kp.ext hE9)
  rw [nm_sm] at Ab
  refine z_callS cx (j := 2) (m_X4_word G l _ P b r0 v nSm h1 Ab hcv ok_sm (mc := wC v) (ms := wS v) (Nat.le_refl _) (Nat.le_refl _)) (lw_S q1258 q1259 q57 q1260) (by decide +kernel) rfl (rest := [.ref g]) rfl hl (Nat.le_of_ble_eq_true rfl) (by decide) (by omega) dX4_setWords_9 hS (fun q h => Or.inl (Nat.le_trans hS.1 h)) (fun v9 H locs hp9 hz9 hk9 hS => ?_)
  have hE9 := Ext.of hz9 hk9 (fun q h => h)
  have hg9 := hg9.ext hE9
  subst hp9
  have h1 := h1.kp (Kp.ext hE9)
  refine z_put cx (k0 := 1) (vs' := [f0, .int (iI (wrd v nSm)), f2, f3, f4, f5, f6, f7, f8, f9, f10, f11]) hg9 (Or.inr rfl) hS rfl in_X8 tyX8_ok nmX8 (by decide) q1297 rfl rfl  rfl (Nat.le_of_ble_eq_true rfl) ⟨rfl, rfl⟩ dX4_setWords_12 (fun H locs hg9 hz9 hq9 hS => ?_)
  have h1 := h1.kp (Kp.put hq9 (fun q h => by rintro rfl; exact hP h))
  refine lv_aload_n hx hb dX4_setWords_15 rfl (lv_at hl 1 rfl) ?_
  refine z_aload_nq cx dX4_setWords_16 rfl (lv_at hl 2 rfl) ?_
  refine lv_ldc2 hx hb cx.wn (cx.ts _ q1267) dX4_setWords_17 ?_
  refine lv_lconst (v := 0) hx hb dX4_setWords_20 (by decide) ?_
  refine z_callS cx (j := 2) (m_X4_name G l _ 30787941246789477 0 (mc := 1) (ms := 16) (Nat.le_refl _) (Nat.le_refl _)) (lw_S q1217 q1218 q57 q1219) (by decide +kernel) rfl (rest := [va_rf r0, .ref g]) rfl hl (by cases r0 <;> exact (Nat.le_of_ble_eq_true rfl)) (by decide) (by omega) dX4_setWords_21 hS (fun q h => Or.inl (Nat.le_trans hS.1 h)) (fun v21 H locs hp21 hz9 hk9 hS => ?_)
  have hE9 := Ext.of hz9 hk9 (fun q h => h)
  obtain ⟨b, rfl, -, Ab⟩ := hp21
  have hg9 := hg9.ext hE9
  have h1 := h1.kp (Kp.ext hE9)
  rw [nm_ma] at Ab
  refine z_callS cx (j := 2) (m_X4_word G l _ P b r0 v nMa h1 Ab hcv ok_ma (mc := wC v) (ms := wS v) (Nat.le_refl _) (Nat.le_refl _)) (lw_S q1258 q1259 q57 q1260) (by decide +kernel) rfl (rest := [.ref g]) rfl hl (Nat.le_of_ble_eq_true rfl) (by decide) (by omega) dX4_setWords_24 hS (fun q h => Or.inl (Nat.le_trans hS.1 h)) (fun v24 H locs hp24 hz9 hk9 hS => ?_)
  have hE9 := Ext.of hz9 hk9 (fun q h => h)
  have hg9 := hg9.ext hE9
  subst hp24
  have h1 := h1.kp (Kp.ext hE9)
  refine z_put cx (k0 := 2) (vs' := [f0, .int (iI (wrd v nSm)), .int (iI (wrd v nMa)), f3, f4, f5, f6, f7, f8, f9, f10, f11]) hg9 (Or.inr rfl) hS rfl in_X8 tyX8_ok nmX8 (by decide) q1299 rfl rfl  rfl (Nat.le_of_ble_eq_true rfl) ⟨rfl, rfl⟩ dX4_setWords_27 (fun H locs hg9 hz9 hq9 hS => ?_)
  have h1 := h1.kp (Kp.put hq9 (fun q h => by rintro rfl; exact hP h))
  refine lv_aload_n hx hb dX4_setWords_30 rfl (lv_at hl 1 rfl) ?_
  refine z_aload_nq cx dX4_setWords_31 rfl (lv_at hl 2 rfl) ?_
  refine lv_ldc2 hx hb cx.wn (cx.ts _ q1254) dX4_setWords_32 ?_
  refine lv_lconst (v := 0) hx hb dX4_setWords_35 (by decide) ?_
  refine z_callS cx (j := 3) (m_X4_has G l _ P r0 v 7957628971445872741 0 nNc nm_nc ok_nc h1 hcv (mc := 1 + wC v) (ms := 16 + wS v) (Nat.le_refl _) (Nat.le_refl _)) (lw_S q1255 q1256 q57 q1257) (by decide +kernel) rfl (rest := [.ref g]) rfl hl (Nat.le_of_ble_eq_true rfl) (by decide) (by omega) dX4_setWords_36 hS (fun q h => Or.inl (Nat.le_trans hS.1 h)) (fun v36 H locs hp36 hz9 hk9 hS => ?_)
  have hE9 := Ext.of hz9 hk9 (fun q h => h)
  have hg9 := hg9.ext hE9
  have hb36 := b2i_rg (hasW v nNc)
  subst hp36
  have h1 := h1.kp (Kp.ext hE9)
  refine z_put cx (k0 := 6) (vs' := [f0, .int (iI (wrd v nSm)), .int (iI (wrd v nMa)), f3, f4, f5, .int (iI (b2i (hasW v nNc))), f7, f8, f9, f10, f11]) hg9 (Or.inr rfl) hS rfl in_X8 tyX8_ok nmX8 (by decide) q1303 rfl rfl  rfl (Nat.le_of_ble_eq_true rfl) (b2i_fit _) dX4_setWords_39 (fun H locs hg9 hz9 hq9 hS => ?_)
  have h1 := h1.kp (Kp.put hq9 (fun q h => by rintro rfl; exact hP h))
  have yes : mka v = true → b2i (mka v) = 1 := fun h => by rw [h]; rfl
  refine lv_aload_n hx hb dX4_setWords_42 rfl (lv_at hl 1 rfl) ?_
  refine lv_aload_n hx hb dX4_setWords_43 rfl (lv_at hl 1 rfl) ?_
  refine z_get cx (k0 := 6) hg9 rfl in_X8 (by decide) q1303 rfl rfl dX4_setWords_44 ?_
  refine z_if_ne cx (tgt := 85) dX4_setWords_47 (by decide) (by omega) (fun c47 => ?_) (fun c47 => ?_)
  · have e9 : mka v = true := by unfold mka; cases h : hasW v nNc with | true => rfl | false => rw [h] at c47; exact absurd rfl c47
    refine lv_iconst (v := iI (1)) hx hb dX4_setWords_85 rfl ?_
    refine lv_goto (tgt := 90) hx hb dX4_setWords_86 (by decide) ?_
    refine z_put cx (k0 := 7) (vs' := [f0, .int (iI (wrd v nSm)), .int (iI (wrd v nMa)), f3, f4, f5, .int (iI (b2i (hasW v nNc))), .int (iI 1), f8, f9, f10, f11]) hg9 (Or.inr rfl) hS rfl in_X8 tyX8_ok nmX8 (by decide) q1304 rfl rfl  rfl (Nat.le_of_ble_eq_true rfl) ⟨rfl, rfl⟩ dX4_setWords_90 (fun H locs hg9 hz9 hq9 hS => ?_)
    exact z_vret cx hQ rfl (by rw [yes e9]; exact hg9) hS (by omega) dX4_setWords_93
  · have n1 := b2i_1.mp c47
    refine lv_aload_n hx hb dX4_setWords_50 rfl (lv_at hl 1 rfl) ?_
    refine z_get cx (k0 := 1) hg9 rfl in_X8 (by decide) q1297 rfl rfl dX4_setWords_51 ?_
    refine lv_bipush (v := iI (-2)) hx hb dX4_setWords_54 (by decide) ?_
    refine z_icmp_ne cx (tgt := 85) dX4_setWords_56 (by decide) (by omega) (fun c56 => ?_) (fun c56 => ?_)
    · have e9 : mka v = true := by unfold mka; rw [n1, decide_eq_true c56]; rfl
      refine lv_iconst (v := iI (1)) hx hb dX4_setWords_85 rfl ?_
      refine lv_goto (tgt := 90) hx hb dX4_setWords_86 (by decide) ?_
      refine z_put cx (k0 := 7) (vs' := [f0, .int (iI (wrd v nSm)), .int (iI (wrd v nMa)), f3, f4, f5, .int (iI (b2i (hasW v nNc))), .int (iI 1), f8, f9, f10, f11]) hg9 (Or.inr rfl) hS rfl in_X8 tyX8_ok nmX8 (by decide) q1304 rfl rfl  rfl (Nat.le_of_ble_eq_true rfl) ⟨rfl, rfl⟩ dX4_setWords_90 (fun H locs hg9 hz9 hq9 hS => ?_)
      exact z_vret cx hQ rfl (by rw [yes e9]; exact hg9) hS (by omega) dX4_setWords_93
    · have n2 : decide (wrd v nSm ≠ -2) = false := decide_eq_false (fun h => h c56)
      refine z_aload_nq cx dX4_setWords_59 rfl (lv_at hl 2 rfl) ?_
      refine lv_ldc2 hx hb cx.wn (cx.ts _ q1344) dX4_setWords_60 ?_
      refine lv_ldc2 hx hb cx.wn (cx.ts _ q1345) dX4_setWords_63 ?_
      refine z_callS cx (j := 3) (m_X4_has G l _ P r0 v 7887337265225164150 27422272652407909 nMr nm_mr ok_mr h1 hcv (mc := 1 + wC v) (ms := 16 + wS v) (Nat.le_refl _) (Nat.le_refl _)) (lw_S q1255 q1256 q57 q1257) (by decide +kernel) rfl (rest := [.ref g]) rfl hl (Nat.le_of_ble_eq_true rfl) (by decide) (by omega) dX4_setWords_66 hS (fun q h => Or.inl (Nat.le_trans hS.1 h)) (fun v66 H locs hp66 hz9 hk9 hS => ?_)
      have hE9 := Ext.of hz9 hk9 (fun q h => h)
      have hg9 := hg9.ext hE9
      have hb66 := b2i_rg (hasW v nMr)
      subst hp66
      have h1 := h1.kp (Kp.ext hE9)
      refine z_if_ne cx (tgt := 85) dX4_setWords_69 (by decide) (by omega) (fun c69 => ?_) (fun c69 => ?_)
      · have e9 : mka v = true := by unfold mka; rw [n1, n2]; cases h : hasW v nMr with | true => rfl | false => rw [h] at c69; exact absurd rfl c69
        refine lv_iconst (v := iI (1)) hx hb dX4_setWords_85 rfl ?_
        refine lv_goto (tgt := 90) hx hb dX4_setWords_86 (by decide) ?_
        refine z_put cx (k0 := 7) (vs' := [f0, .int (iI (wrd v nSm)), .int (iI (wrd v nMa)), f3, f4, f5, .int (iI (b2i (hasW v nNc))), .int (iI 1), f8, f9, f10, f11]) hg9 (Or.inr rfl) hS rfl in_X8 tyX8_ok nmX8 (by decide) q1304 rfl rfl  rfl (Nat.le_of_ble_eq_true rfl) ⟨rfl, rfl⟩ dX4_setWords_90 (fun H locs hg9 hz9 hq9 hS => ?_)
        exact z_vret cx hQ rfl (by rw [yes e9]; exact hg9) hS (by omega) dX4_setWords_93
      · have n3 := b2i_1.mp c69
        refine z_aload_nq cx dX4_setWords_72 rfl (lv_at hl 2 rfl) ?_
        refine lv_ldc2 hx hb cx.wn (cx.ts _ q1346) dX4_setWords_73 ?_
        refine lv_ldc2 hx hb cx.wn (cx.ts _ q1347) dX4_setWords_76 ?_
        refine z_callS cx (j := 3) (m_X4_has G l _ P r0 v 8102661242812723813 8530218369127904357 nPr nm_pr ok_pr h1 hcv (mc := 1 + wC v) (ms := 16 + wS v) (Nat.le_refl _) (Nat.le_refl _)) (lw_S q1255 q1256 q57 q1257) (by decide +kernel) rfl (rest := [.ref g]) rfl hl (Nat.le_of_ble_eq_true rfl) (by decide) (by omega) dX4_setWords_79 hS (fun q h => Or.inl (Nat.le_trans hS.1 h)) (fun v79 H locs hp79 hz9 hk9 hS => ?_)
        have hE9 := Ext.of hz9 hk9 (fun q h => h)
        have hg9 := hg9.ext hE9
        have hb79 := b2i_rg (hasW v nPr)
        subst hp79
        refine z_if_eq cx (tgt := 89) dX4_setWords_82 (by decide) (by omega) (fun c82 => ?_) (fun c82 => ?_)
        · have n4 := b2i_1.mp c82
          refine lv_iconst (v := iI (0)) hx hb dX4_setWords_89 rfl ?_
          refine z_put cx (k0 := 7) (vs' := [f0, .int (iI (wrd v nSm)), .int (iI (wrd v nMa)), f3, f4, f5, .int (iI (b2i (hasW v nNc))), .int (iI 0), f8, f9, f10, f11]) hg9 (Or.inr rfl) hS rfl in_X8 tyX8_ok nmX8 (by decide) q1304 rfl rfl  rfl (Nat.le_of_ble_eq_true rfl) ⟨rfl, rfl⟩ dX4_setWords_90 (fun H locs hg9 hz9 hq9 hS => ?_)
          exact z_vret cx hQ rfl (by rw [show mka v = false by unfold mka; rw [n1, n2, n3, n4]; rfl]; exact hg9) hS (by omega) dX4_setWords_93
        · have e9 : mka v = true := by unfold mka; rw [n1, n2, n3]; cases h : hasW v nPr with | true => rfl | false => rw [h] at c82; exact absurd rfl c82
          refine lv_iconst (v := iI (1)) hx hb dX4_setWords_85 rfl ?_
          refine lv_goto (tgt := 90) hx hb dX4_setWords_86 (by decide) ?_
          refine z_put cx (k0 := 7) (vs' := [f0, .int (iI (wrd v nSm)), .int (iI (wrd v nMa)), f3, f4, f5, .int (iI (b2i (hasW v nNc))), .int (iI 1), f8, f9, f10, f11]) hg9 (Or.inr rfl) hS rfl in_X8 tyX8_ok nmX8 (by decide) q1304 rfl rfl  rfl (Nat.le_of_ble_eq_true rfl) ⟨rfl, rfl⟩ dX4_setWords_90 (fun H locs hg9 hz9 hq9 hS => ?_)
          exact z_vret cx hQ rfl (by rw [yes e9]; exact hg9) hS (by omega) dX4_setWords_93
set_option maxHeartbeats 4000000 in
set_option maxRecDepth 100000 in
theorem m_X4_setTimes (G : zE) (l : Launch) (H0 : Heap) (P : Nat → Prop) (x g t : Nat) (cs : List Int) (lz : Lns) (sm ma ti : Int) (f0 f3 f4 f5 f6 f7 f8 f9 f10 f11 : Value) (u0 u1 u2 u4 u5 u6 u7 u8 : Value) (hg9 : Ob G H0 g 7 [f0, .int (iI sm), .int (iI ma), f3, f4, f5, f6, f7, f8, f9, f10, f11]) (hx9 : Ob G H0 x 5 [u0, u1, u2, .int (iI ti), u4, u5, u6, u7, u8]) (hP : ¬ P g) (ht : Tx G P H0 t cs lz) (hxg : x ≠ g) (hr9 : rg sm ∧ rg ma) {mc ms : Nat} (hmc : 3 + (vC nExp none (tln cs lz) + vC nDate none (tln cs lz) + vC nAge none (tln cs lz)) ≤ mc) (hms : 48 + (vS nExp none (tln cs lz) + vS nDate none (tln cs lz) + vS nAge none (tln cs lz)) ≤ ms) : zV G l yX4_setTimes (ws_ yX4_setTimes cX4_setTimes 7 (none)) 3 74 mc ms [.ref x, .ref g, .ref t] H0 (fun H1 => Ob G H1 g 7 [f0, .int (iI sm), .int (iI ma), .int (iI (lifeOf sm ma (tln cs lz))), .int (iI (ageIn (tln cs lz))), .int (iI ti), f6, f7, f8, f9, f10, f11]) (fun q => H0.size ≤ q ∨ q = g) := by
  refine zV.start (cc := cX4_setTimes) (by decide) (Nat.le_of_ble_eq_true rfl) ?_
  intro p e s m args below meth c Q cx hQ hmn ls hl
  have hx := cx.1
  have hb := cx.2.1
  have hS : va_S (fun q => H0.size ≤ q ∨ q = g) H0 H0 [] := va_S.rf
  have hl : lv_has ls 7 [(0, .ref x), (1, .ref g), (2, .ref t)] := hl
  have e1 := nIn_rg (tln cs lz) nExp
  have e2 := nIn_rg (tln cs lz) nDate
  have e3 := nIn_rg (tln cs lz) nAge
  refine lv_aload_n hx hb dX4_setTimes_0 rfl (lv_at hl 2 rfl) ?_
  refine lv_ldc2 hx hb cx.wn (cx.ts _ q1352) dX4_setTimes_1 ?_
  refine lv_lconst (v := 0) hx hb dX4_setTimes_4 (by decide) ?_
  refine z_callS cx (j := 2) (m_X4_name G l _ 28561396848551283 0 (mc := 1) (ms := 16) (Nat.le_refl _) (Nat.le_refl _)) (lw_S q1217 q1218 q57 q1219) (by decide +kernel) rfl (rest := [.ref t]) rfl hl (Nat.le_of_ble_eq_true rfl) (by decide) (by omega) dX4_setTimes_5 hS (fun q h => Or.inl (Nat.le_trans hS.1 h)) (fun v5 H locs hp5 hz9 hk9 hS => ?_)
  have hE9 := Ext.of hz9 hk9 (fun q h => h)
  obtain ⟨b, rfl, -, Ab⟩ := hp5
  have hg9 := hg9.ext hE9
  have hx9 := hx9.ext hE9
  have ht := ht.ext hE9
  rw [nm_exp] at Ab
  refine z_callS cx (j := 2) (m_X4_numberIn G l _ P t b cs lz nExp ht Ab ok_exp (mc := vC nExp none (tln cs lz)) (ms := vS nExp none (tln cs lz)) (Nat.le_refl _) (Nat.le_refl _)) (lw_S q1353 q1354 q57 q1355) (by decide +kernel) rfl (rest := []) rfl hl (Nat.le_of_ble_eq_true rfl) (by decide) (by omega) dX4_setTimes_8 hS (fun q h => Or.inl (Nat.le_trans hS.1 h)) (fun v8 H locs hp8 hz9 hk9 hS => ?_)
  have hE9 := Ext.of hz9 hk9 (fun q h => h)
  have hg9 := hg9.ext hE9
  have hx9 := hx9.ext hE9
  subst hp8
  have ht := ht.ext hE9
  refine lv_istore_n (lv' := [(3, .int (iI (nIn (tln cs lz) nExp))), (0, .ref x), (1, .ref g), (2, .ref t)]) hx hb dX4_setTimes_11 rfl hl (by decide) rfl (fun ls hl => ?_)
  refine lv_aload_n hx hb dX4_setTimes_12 rfl (lv_at hl 3 rfl) ?_
  refine lv_ldc2 hx hb cx.wn (cx.ts _ q1356) dX4_setTimes_13 ?_
  refine lv_lconst (v := 0) hx hb dX4_setTimes_16 (by decide) ?_
  refine z_callS cx (j := 2) (m_X4_name G l _ 1684108389 0 (mc := 1) (ms := 16) (Nat.le_refl _) (Nat.le_refl _)) (lw_S q1217 q1218 q57 q1219) (by decide +kernel) rfl (rest := [.ref t]) rfl hl (Nat.le_of_ble_eq_true rfl) (by decide) (by omega) dX4_setTimes_17 hS (fun q h => Or.inl (Nat.le_trans hS.1 h)) (fun v17 H locs hp17 hz9 hk9 hS => ?_)
  have hE9 := Ext.of hz9 hk9 (fun q h => h)
  obtain ⟨b, rfl, -, Ab⟩ := hp17
  have hg9 := hg9.ext hE9
  have hx9 := hx9.ext hE9
  have ht := ht.ext hE9
  rw [nm_date] at Ab
  refine z_callS cx (j := 2) (m_X4_numberIn G l _ P t b cs lz nDate ht Ab ok_date (mc := vC nDate none (tln cs lz)) (ms := vS nDate none (tln cs lz)) (Nat.le_refl _) (Nat.le_refl _)) (lw_S q1353 q1354 q57 q1355) (by decide +kernel) rfl (rest := []) rfl hl (Nat.le_of_ble_eq_true rfl) (by decide) (by omega) dX4_setTimes_20 hS (fun q h => Or.inl (Nat.le_trans hS.1 h)) (fun v20 H locs hp20 hz9 hk9 hS => ?_)
  have hE9 := Ext.of hz9 hk9 (fun q h => h)
  have hg9 := hg9.ext hE9
  have hx9 := hx9.ext hE9
  subst hp20
  have ht := ht.ext hE9
  refine lv_istore (lv' := [(4, .int (iI (nIn (tln cs lz) nDate))), (3, .int (iI (nIn (tln cs lz) nExp))), (0, .ref x), (1, .ref g), (2, .ref t)]) hx hb dX4_setTimes_23 hl (by decide) rfl (fun ls hl => ?_)
  refine lv_aload_n hx hb dX4_setTimes_25 rfl (lv_at hl 4 rfl) ?_
  refine lv_ldc2 hx hb cx.wn (cx.ts _ q1357) dX4_setTimes_26 ?_
  refine lv_lconst (v := 0) hx hb dX4_setTimes_29 (by decide) ?_
  refine z_callS cx (j := 2) (m_X4_name G l _ 6383461 0 (mc := 1) (ms := 16) (Nat.le_refl _) (Nat.le_refl _)) (lw_S q1217 q1218 q57 q1219) (by decide +kernel) rfl (rest := [.ref t]) rfl hl (Nat.le_of_ble_eq_true rfl) (by decide) (by omega) dX4_setTimes_30 hS (fun q h => Or.inl (Nat.le_trans hS.1 h)) (fun v30 H locs hp30 hz9 hk9 hS => ?_)
  have hE9 := Ext.of hz9 hk9 (fun q h => h)
  obtain ⟨b, rfl, -, Ab⟩ := hp30
  have hg9 := hg9.ext hE9
  have hx9 := hx9.ext hE9
  have ht := ht.ext hE9
  rw [nm_age] at Ab
  refine z_callS cx (j := 2) (m_X4_numberIn G l _ P t b cs lz nAge ht Ab ok_age (mc := vC nAge none (tln cs lz)) (ms := vS nAge none (tln cs lz)) (Nat.le_refl _) (Nat.le_refl _)) (lw_S q1353 q1354 q57 q1355) (by decide +kernel) rfl (rest := []) rfl hl (Nat.le_of_ble_eq_true rfl) (by decide) (by omega) dX4_setTimes_33 hS (fun q h => Or.inl (Nat.le_trans hS.1 h)) (fun v33 H locs hp33 hz9 hk9 hS => ?_)
  have hE9 := Ext.of hz9 hk9 (fun q h => h)
  have hg9 := hg9.ext hE9
  have hx9 := hx9.ext hE9
  subst hp33
  have hB : btw (tln cs lz) = if 0 ≤ nIn (tln cs lz) nExp ∧ 0 ≤ nIn (tln cs lz) nDate ∧ nIn (tln cs lz) nDate < nIn (tln cs lz) nExp then nIn (tln cs lz) nExp - nIn (tln cs lz) nDate else 0 := rfl
  have hAg : ageIn (tln cs lz) = if 0 ≤ nIn (tln cs lz) nAge then nIn (tln cs lz) nAge else 0 := rfl
  have hLf : lifeOf sm ma (tln cs lz) = if 0 ≤ sm then sm else if 0 ≤ ma then ma else btw (tln cs lz) := rfl
  refine lv_istore (lv' := [(5, .int (iI (nIn (tln cs lz) nAge))), (4, .int (iI (nIn (tln cs lz) nDate))), (3, .int (iI (nIn (tln cs lz) nExp))), (0, .ref x), (1, .ref g), (2, .ref t)]) hx hb dX4_setTimes_36 hl (by decide) rfl (fun ls hl => ?_)
  have l63 : ∀ (fuel : Nat) , 0 < fuel → ∀ (H : Heap) (locs : List Loc) (ls : Array Slot) (k n : Nat), va_S (fun q => H0.size ≤ q ∨ q = g) H0 H locs → Ob G H g 7 [f0, .int (iI sm), .int (iI ma), f3, f4, f5, f6, f7, f8, f9, f10, f11] → Ob G H x 5 [u0, u1, u2, .int (iI ti), u4, u5, u6, u7, u8] → (k ≤ mc) → (n ≤ ms) → lv_has ls 7 [(0, .ref x), (1, .ref g), (5, .int (iI (nIn (tln cs lz) nAge))), (6, .int (iI (btw (tln cs lz))))] → W p l e ⟨3, mc, ms, 74⟩ s m args below meth c H locs k n Q (F0 m 63 ls []) := by
    intro fuel
    induction fuel with
    | zero => intro  hf9; exact absurd hf9 (Nat.not_lt_zero _)
    | succ fuel ih_l63 =>
      intro  hf9  H locs ls k n hS hg9 hx9 hr1 hr2 hl
      refine lv_aload_n hx hb dX4_setTimes_63 rfl (lv_at hl 1 rfl) ?_
      refine lv_aload_n hx hb dX4_setTimes_64 rfl (lv_at hl 1 rfl) ?_
      refine z_get cx (k0 := 1) hg9 rfl in_X8 (by decide) q1297 rfl rfl dX4_setTimes_65 ?_
      refine z_if_lt cx (tgt := 78) dX4_setTimes_68 (by decide) (by omega) (fun c68 => ?_) (fun c68 => ?_)
      · rw [if_neg (by omega)] at hLf
        refine lv_aload_n hx hb dX4_setTimes_78 rfl (lv_at hl 1 rfl) ?_
        refine z_get cx (k0 := 2) hg9 rfl in_X8 (by decide) q1299 rfl rfl dX4_setTimes_79 ?_
        refine z_if_lt cx (tgt := 92) dX4_setTimes_82 (by decide) (by omega) (fun c82 => ?_) (fun c82 => ?_)
        · rw [if_neg (by omega)] at hLf
          refine lv_iload hx hb dX4_setTimes_92 (lv_at hl 3 rfl) ?_
          refine z_put cx (k0 := 3) (vs' := [f0, .int (iI sm), .int (iI ma), .int (iI (btw (tln cs lz))), f4, f5, f6, f7, f8, f9, f10, f11]) hg9 (Or.inr rfl) hS rfl in_X8 tyX8_ok nmX8 (by decide) q1300 rfl rfl  rfl (Nat.le_of_ble_eq_true rfl) ⟨rfl, rfl⟩ dX4_setTimes_94 (fun H locs hg9 hz9 hq9 hS => ?_)
          have hx9 := hx9.kept (hq9 _ hxg)
          refine lv_aload_n hx hb dX4_setTimes_97 rfl (lv_at hl 1 rfl) ?_
          refine lv_iload hx hb dX4_setTimes_98 (lv_at hl 2 rfl) ?_
          refine z_if_lt cx (tgt := 108) dX4_setTimes_100 (by decide) (by omega) (fun c100 => ?_) (fun c100 => ?_)
          · refine lv_iconst (v := iI (0)) hx hb dX4_setTimes_108 rfl ?_
            refine z_put cx (k0 := 4) (vs' := [f0, .int (iI sm), .int (iI ma), .int (iI (btw (tln cs lz))), .int (iI 0), f5, f6, f7, f8, f9, f10, f11]) hg9 (Or.inr rfl) hS rfl in_X8 tyX8_ok nmX8 (by decide) q1301 rfl rfl  rfl (Nat.le_of_ble_eq_true rfl) ⟨rfl, rfl⟩ dX4_setTimes_109 (fun H locs hg9 hz9 hq9 hS => ?_)
            have hx9 := hx9.kept (hq9 _ hxg)
            refine lv_aload_n hx hb dX4_setTimes_112 rfl (lv_at hl 1 rfl) ?_
            refine lv_aload_n hx hb dX4_setTimes_113 rfl (lv_at hl 0 rfl) ?_
            refine z_get cx (k0 := 3) hx9 rfl in_X4 (by decide) q1158 rfl rfl dX4_setTimes_114 ?_
            refine z_put cx (k0 := 5) (vs' := [f0, .int (iI sm), .int (iI ma), .int (iI (btw (tln cs lz))), .int (iI 0), .int (iI ti), f6, f7, f8, f9, f10, f11]) hg9 (Or.inr rfl) hS rfl in_X8 tyX8_ok nmX8 (by decide) q1302 rfl rfl  rfl (Nat.le_of_ble_eq_true rfl) ⟨rfl, rfl⟩ dX4_setTimes_117 (fun H locs hg9 hz9 hq9 hS => ?_)
            have hx9 := hx9.kept (hq9 _ hxg)
            exact z_vret cx hQ rfl (by rw [hLf, hAg]; first | (rw [if_pos (by omega)]; exact hg9) | (rw [if_neg (by omega)]; exact hg9)) hS (by omega) dX4_setTimes_120
          · refine lv_iload hx hb dX4_setTimes_103 (lv_at hl 2 rfl) ?_
            refine lv_goto (tgt := 109) hx hb dX4_setTimes_105 (by decide) ?_
            refine z_put cx (k0 := 4) (vs' := [f0, .int (iI sm), .int (iI ma), .int (iI (btw (tln cs lz))), .int (iI (nIn (tln cs lz) nAge)), f5, f6, f7, f8, f9, f10, f11]) hg9 (Or.inr rfl) hS rfl in_X8 tyX8_ok nmX8 (by decide) q1301 rfl rfl  rfl (Nat.le_of_ble_eq_true rfl) ⟨rfl, rfl⟩ dX4_setTimes_109 (fun H locs hg9 hz9 hq9 hS => ?_)
            have hx9 := hx9.kept (hq9 _ hxg)
            refine lv_aload_n hx hb dX4_setTimes_112 rfl (lv_at hl 1 rfl) ?_
            refine lv_aload_n hx hb dX4_setTimes_113 rfl (lv_at hl 0 rfl) ?_
            refine z_get cx (k0 := 3) hx9 rfl in_X4 (by decide) q1158 rfl rfl dX4_setTimes_114 ?_
            refine z_put cx (k0 := 5) (vs' := [f0, .int (iI sm), .int (iI ma), .int (iI (btw (tln cs lz))), .int (iI (nIn (tln cs lz) nAge)), .int (iI ti), f6, f7, f8, f9, f10, f11]) hg9 (Or.inr rfl) hS rfl in_X8 tyX8_ok nmX8 (by decide) q1302 rfl rfl  rfl (Nat.le_of_ble_eq_true rfl) ⟨rfl, rfl⟩ dX4_setTimes_117 (fun H locs hg9 hz9 hq9 hS => ?_)
            have hx9 := hx9.kept (hq9 _ hxg)
            exact z_vret cx hQ rfl (by rw [hLf, hAg]; first | (rw [if_pos (by omega)]; exact hg9) | (rw [if_neg (by omega)]; exact hg9)) hS (by omega) dX4_setTimes_120
        · rw [if_pos (by omega)] at hLf
          refine lv_aload_n hx hb dX4_setTimes_85 rfl (lv_at hl 1 rfl) ?_
          refine z_get cx (k0 := 2) hg9 rfl in_X8 (by decide) q1299 rfl rfl dX4_setTimes_86 ?_
          refine lv_goto (tgt := 94) hx hb dX4_setTimes_89 (by decide) ?_
          refine z_put cx (k0 := 3) (vs' := [f0, .int (iI sm), .int (iI ma), .int (iI ma), f4, f5, f6, f7, f8, f9, f10, f11]) hg9 (Or.inr rfl) hS rfl in_X8 tyX8_ok nmX8 (by decide) q1300 rfl rfl  rfl (Nat.le_of_ble_eq_true rfl) ⟨rfl, rfl⟩ dX4_setTimes_94 (fun H locs hg9 hz9 hq9 hS => ?_)
          have hx9 := hx9.kept (hq9 _ hxg)
          refine lv_aload_n hx hb dX4_setTimes_97 rfl (lv_at hl 1 rfl) ?_
          refine lv_iload hx hb dX4_setTimes_98 (lv_at hl 2 rfl) ?_
          refine z_if_lt cx (tgt := 108) dX4_setTimes_100 (by decide) (by omega) (fun c100 => ?_) (fun c100 => ?_)
          · refine lv_iconst (v := iI (0)) hx hb dX4_setTimes_108 rfl ?_
            refine z_put cx (k0 := 4) (vs' := [f0, .int (iI sm), .int (iI ma), .int (iI ma), .int (iI 0), f5, f6, f7, f8, f9, f10, f11]) hg9 (Or.inr rfl) hS rfl in_X8 tyX8_ok nmX8 (by decide) q1301 rfl rfl  rfl (Nat.le_of_ble_eq_true rfl) ⟨rfl, rfl⟩ dX4_setTimes_109 (fun H locs hg9 hz9 hq9 hS => ?_)
            have hx9 := hx9.kept (hq9 _ hxg)
            refine lv_aload_n hx hb dX4_setTimes_112 rfl (lv_at hl 1 rfl) ?_
            refine lv_aload_n hx hb dX4_setTimes_113 rfl (lv_at hl 0 rfl) ?_
            refine z_get cx (k0 := 3) hx9 rfl in_X4 (by decide) q1158 rfl rfl dX4_setTimes_114 ?_
            refine z_put cx (k0 := 5) (vs' := [f0, .int (iI sm), .int (iI ma), .int (iI ma), .int (iI 0), .int (iI ti), f6, f7, f8, f9, f10, f11]) hg9 (Or.inr rfl) hS rfl in_X8 tyX8_ok nmX8 (by decide) q1302 rfl rfl  rfl (Nat.le_of_ble_eq_true rfl) ⟨rfl, rfl⟩ dX4_setTimes_117 (fun H locs hg9 hz9 hq9 hS => ?_)
            have hx9 := hx9.kept (hq9 _ hxg)
            exact z_vret cx hQ rfl (by rw [hLf, hAg]; first | (rw [if_pos (by omega)]; exact hg9) | (rw [if_neg (by omega)]; exact hg9)) hS (by omega) dX4_setTimes_120
          · refine lv_iload hx hb dX4_setTimes_103 (lv_at hl 2 rfl) ?_
            refine lv_goto (tgt := 109) hx hb dX4_setTimes_105 (by decide) ?_
            refine z_put cx (k0 := 4) (vs' := [f0, .int (iI sm), .int (iI ma), .int (iI ma), .int (iI (nIn (tln cs lz) nAge)), f5, f6, f7, f8, f9, f10, f11]) hg9 (Or.inr rfl) hS rfl in_X8 tyX8_ok nmX8 (by decide) q1301 rfl rfl  rfl (Nat.le_of_ble_eq_true rfl) ⟨rfl, rfl⟩ dX4_setTimes_109 (fun H locs hg9 hz9 hq9 hS => ?_)
            have hx9 := hx9.kept (hq9 _ hxg)
            refine lv_aload_n hx hb dX4_setTimes_112 rfl (lv_at hl 1 rfl) ?_
            refine lv_aload_n hx hb dX4_setTimes_113 rfl (lv_at hl 0 rfl) ?_
            refine z_get cx (k0 := 3) hx9 rfl in_X4 (by decide) q1158 rfl rfl dX4_setTimes_114 ?_
            refine z_put cx (k0 := 5) (vs' := [f0, .int (iI sm), .int (iI ma), .int (iI ma), .int (iI (nIn (tln cs lz) nAge)), .int (iI ti), f6, f7, f8, f9, f10, f11]) hg9 (Or.inr rfl) hS rfl in_X8 tyX8_ok nmX8 (by decide) q1302 rfl rfl  rfl (Nat.le_of_ble_eq_true rfl) ⟨rfl, rfl⟩ dX4_setTimes_117 (fun H locs hg9 hz9 hq9 hS => ?_)
            have hx9 := hx9.kept (hq9 _ hxg)
            exact z_vret cx hQ rfl (by rw [hLf, hAg]; first | (rw [if_pos (by omega)]; exact hg9) | (rw [if_neg (by omega)]; exact hg9)) hS (by omega) dX4_setTimes_120
      · rw [if_pos (by omega)] at hLf
        refine lv_aload_n hx hb dX4_setTimes_71 rfl (lv_at hl 1 rfl) ?_
        refine z_get cx (k0 := 1) hg9 rfl in_X8 (by decide) q1297 rfl rfl dX4_setTimes_72 ?_
        refine lv_goto (tgt := 94) hx hb dX4_setTimes_75 (by decide) ?_
        refine z_put cx (k0 := 3) (vs' := [f0, .int (iI sm), .int (iI ma), .int (iI sm), f4, f5, f6, f7, f8, f9, f10, f11]) hg9 (Or.inr rfl) hS rfl in_X8 tyX8_ok nmX8 (by decide) q1300 rfl rfl  rfl (Nat.le_of_ble_eq_true rfl) ⟨rfl, rfl⟩ dX4_setTimes_94 (fun H locs hg9 hz9 hq9 hS => ?_)
        have hx9 := hx9.kept (hq9 _ hxg)
        refine lv_aload_n hx hb dX4_setTimes_97 rfl (lv_at hl 1 rfl) ?_
        refine lv_iload hx hb dX4_setTimes_98 (lv_at hl 2 rfl) ?_
        refine z_if_lt cx (tgt := 108) dX4_setTimes_100 (by decide) (by omega) (fun c100 => ?_) (fun c100 => ?_)
        · refine lv_iconst (v := iI (0)) hx hb dX4_setTimes_108 rfl ?_
          refine z_put cx (k0 := 4) (vs' := [f0, .int (iI sm), .int (iI ma), .int (iI sm), .int (iI 0), f5, f6, f7, f8, f9, f10, f11]) hg9 (Or.inr rfl) hS rfl in_X8 tyX8_ok nmX8 (by decide) q1301 rfl rfl  rfl (Nat.le_of_ble_eq_true rfl) ⟨rfl, rfl⟩ dX4_setTimes_109 (fun H locs hg9 hz9 hq9 hS => ?_)
          have hx9 := hx9.kept (hq9 _ hxg)
          refine lv_aload_n hx hb dX4_setTimes_112 rfl (lv_at hl 1 rfl) ?_
          refine lv_aload_n hx hb dX4_setTimes_113 rfl (lv_at hl 0 rfl) ?_
          refine z_get cx (k0 := 3) hx9 rfl in_X4 (by decide) q1158 rfl rfl dX4_setTimes_114 ?_
          refine z_put cx (k0 := 5) (vs' := [f0, .int (iI sm), .int (iI ma), .int (iI sm), .int (iI 0), .int (iI ti), f6, f7, f8, f9, f10, f11]) hg9 (Or.inr rfl) hS rfl in_X8 tyX8_ok nmX8 (by decide) q1302 rfl rfl  rfl (Nat.le_of_ble_eq_true rfl) ⟨rfl, rfl⟩ dX4_setTimes_117 (fun H locs hg9 hz9 hq9 hS => ?_)
          have hx9 := hx9.kept (hq9 _ hxg)
          exact z_vret cx hQ rfl (by rw [hLf, hAg]; first | (rw [if_pos (by omega)]; exact hg9) | (rw [if_neg (by omega)]; exact hg9)) hS (by omega) dX4_setTimes_120
        · refine lv_iload hx hb dX4_setTimes_103 (lv_at hl 2 rfl) ?_
          refine lv_goto (tgt := 109) hx hb dX4_setTimes_105 (by decide) ?_
          refine z_put cx (k0 := 4) (vs' := [f0, .int (iI sm), .int (iI ma), .int (iI sm), .int (iI (nIn (tln cs lz) nAge)), f5, f6, f7, f8, f9, f10, f11]) hg9 (Or.inr rfl) hS rfl in_X8 tyX8_ok nmX8 (by decide) q1301 rfl rfl  rfl (Nat.le_of_ble_eq_true rfl) ⟨rfl, rfl⟩ dX4_setTimes_109 (fun H locs hg9 hz9 hq9 hS => ?_)
          have hx9 := hx9.kept (hq9 _ hxg)
          refine lv_aload_n hx hb dX4_setTimes_112 rfl (lv_at hl 1 rfl) ?_
          refine lv_aload_n hx hb dX4_setTimes_113 rfl (lv_at hl 0 rfl) ?_
          refine z_get cx (k0 := 3) hx9 rfl in_X4 (by decide) q1158 rfl rfl dX4_setTimes_114 ?_
          refine z_put cx (k0 := 5) (vs' := [f0, .int (iI sm), .int (iI ma), .int (iI sm), .int (iI (nIn (tln cs lz) nAge)), .int (iI ti), f6, f7, f8, f9, f10, f11]) hg9 (Or.inr rfl) hS rfl in_X8 tyX8_ok nmX8 (by decide) q1302 rfl rfl  rfl (Nat.le_of_ble_eq_true rfl) ⟨rfl, rfl⟩ dX4_setTimes_117 (fun H locs hg9 hz9 hq9 hS => ?_)
          have hx9 := hx9.kept (hq9 _ hxg)
          exact z_vret cx hQ rfl (by rw [hLf, hAg]; first | (rw [if_pos (by omega)]; exact hg9) | (rw [if_neg (by omega)]; exact hg9)) hS (by omega) dX4_setTimes_120
  refine lv_iload_n hx hb dX4_setTimes_38 rfl (lv_at hl 2 rfl) ?_
  refine z_if_lt cx (tgt := 60) dX4_setTimes_39 (by decide) (by omega) (fun c39 => ?_) (fun c39 => ?_)
  · refine lv_iconst (v := iI (0)) hx hb dX4_setTimes_60 rfl ?_
    refine lv_istore (lv' := [(6, .int (iI 0)), (5, .int (iI (nIn (tln cs lz) nAge))), (4, .int (iI (nIn (tln cs lz) nDate))), (3, .int (iI (nIn (tln cs lz) nExp))), (0, .ref x), (1, .ref g), (2, .ref t)]) hx hb dX4_setTimes_61 hl (by decide) rfl (fun ls hl => ?_)
    rw [if_neg (by omega)] at hB
    rw [hB] at l63
    exact l63 _  (Nat.lt_succ_self _)  _ _ _ _ _ hS hg9 hx9 (by omega) (by omega) (lv_sub hl [4, 5, 1, 0] rfl)
  · refine lv_iload hx hb dX4_setTimes_42 (lv_at hl 1 rfl) ?_
    refine z_if_lt cx (tgt := 60) dX4_setTimes_44 (by decide) (by omega) (fun c44 => ?_) (fun c44 => ?_)
    · refine lv_iconst (v := iI (0)) hx hb dX4_setTimes_60 rfl ?_
      refine lv_istore (lv' := [(6, .int (iI 0)), (5, .int (iI (nIn (tln cs lz) nAge))), (4, .int (iI (nIn (tln cs lz) nDate))), (3, .int (iI (nIn (tln cs lz) nExp))), (0, .ref x), (1, .ref g), (2, .ref t)]) hx hb dX4_setTimes_61 hl (by decide) rfl (fun ls hl => ?_)
      rw [if_neg (by omega)] at hB
      rw [hB] at l63
      exact l63 _  (Nat.lt_succ_self _)  _ _ _ _ _ hS hg9 hx9 (by omega) (by omega) (lv_sub hl [4, 5, 1, 0] rfl)
    · refine lv_iload_n hx hb dX4_setTimes_47 rfl (lv_at hl 2 rfl) ?_
      refine lv_iload hx hb dX4_setTimes_48 (lv_at hl 1 rfl) ?_
      refine z_icmp_le cx (tgt := 60) dX4_setTimes_50 (by decide) (by omega) (fun c50 => ?_) (fun c50 => ?_)
      · refine lv_iconst (v := iI (0)) hx hb dX4_setTimes_60 rfl ?_
        refine lv_istore (lv' := [(6, .int (iI 0)), (5, .int (iI (nIn (tln cs lz) nAge))), (4, .int (iI (nIn (tln cs lz) nDate))), (3, .int (iI (nIn (tln cs lz) nExp))), (0, .ref x), (1, .ref g), (2, .ref t)]) hx hb dX4_setTimes_61 hl (by decide) rfl (fun ls hl => ?_)
        rw [if_neg (by omega)] at hB
        rw [hB] at l63
        exact l63 _  (Nat.lt_succ_self _)  _ _ _ _ _ hS hg9 hx9 (by omega) (by omega) (lv_sub hl [4, 5, 1, 0] rfl)
      · refine lv_iload_n hx hb dX4_setTimes_53 rfl (lv_at hl 2 rfl) ?_
        refine lv_iload hx hb dX4_setTimes_54 (lv_at hl 1 rfl) ?_
        refine z_isub cx (z := (nIn (tln cs lz) nExp) - (nIn (tln cs lz) nDate)) dX4_setTimes_56 (by omega) ?_
        refine lv_goto (tgt := 61) hx hb dX4_setTimes_57 (by decide) ?_
        refine lv_istore (lv' := [(6, .int (iI ((nIn (tln cs lz) nExp) - (nIn (tln cs lz) nDate)))), (5, .int (iI (nIn (tln cs lz) nAge))), (4, .int (iI (nIn (tln cs lz) nDate))), (3, .int (iI (nIn (tln cs lz) nExp))), (0, .ref x), (1, .ref g), (2, .ref t)]) hx hb dX4_setTimes_61 hl (by decide) rfl (fun ls hl => ?_)
        rw [if_pos (by omega)] at hB
        rw [hB] at l63
        exact l63 _  (Nat.lt_succ_self _)  _ _ _ _ _ hS hg9 hx9 (by omega) (by omega) (lv_sub hl [4, 5, 1, 0] rfl)
set_option maxHeartbeats 4000000 in
set_option maxRecDepth 100000 in
theorem m_X4_isFresh (G : zE) (l : Launch) (H0 : Heap) (x g : Nat) (lf ag ti si : Int) (nc : Bool) (vx : List Value) (f0 f1 f2 f7 f8 f9 f10 f11 : Value) (hx9 : Ob G H0 x 5 vx) (hg9 : Ob G H0 g 7 [f0, f1, f2, .int (iI lf), .int (iI ag), .int (iI si), .int (iI (b2i nc)), f7, f8, f9, f10, f11]) (h1 : vx[3]? = some (.int (iI ti))) (hr9 : rg (ag + ti - si) ∧ rg lf) {mc ms : Nat}  : zR G l yX4_isFresh (ws_ yX4_isFresh cX4_isFresh 2 (some FieldType.boolean)) 1 21 mc ms [.ref x, .ref g] H0 (fun r _ => r = .int (iI (b2i (!nc && decide (ag + ti - si < lf))))) (Pur H0) := by
  refine zR.start (cc := cX4_isFresh) (by decide) (Nat.le_of_ble_eq_true rfl) ?_
  intro p e s m args below meth c Q cx hQ hmn ls hl
  have hx := cx.1
  have hb := cx.2.1
  have hS : va_S (Pur H0) H0 H0 [] := va_S.rf
  have hl : lv_has ls 2 [(0, .ref x), (1, .ref g)] := hl
  have hbn := b2i_rg nc
  refine lv_aload_n hx hb dX4_isFresh_0 rfl (lv_at hl 1 rfl) ?_
  refine z_get cx (k0 := 6) hg9 rfl in_X8 (by decide) q1303 rfl rfl dX4_isFresh_1 ?_
  refine z_if_ne cx (tgt := 23) dX4_isFresh_4 (by decide) (by omega) (fun c4 => ?_) (fun c4 => ?_)
  · refine lv_iconst (v := iI (0)) hx hb dX4_isFresh_23 rfl ?_
    exact z_iret cx hQ rfl rfl (by cases nc with | true => rfl | false => exact absurd rfl c4) hS (by omega) dX4_isFresh_24
  · have e9 : nc = false := b2i_1.mp c4
    refine lv_aload_n hx hb dX4_isFresh_7 rfl (lv_at hl 0 rfl) ?_
    refine lv_aload_n hx hb dX4_isFresh_8 rfl (lv_at hl 1 rfl) ?_
    refine z_callV cx (j := 1) (m_X4_ageOf G l _ x g ag ti si vx _ (hx9.ext (Ext.ofS hS)) (hg9.ext (Ext.ofS hS)) h1 rfl rfl (mc := 0) (ms := 0)) (lw_V q1268 q1270 qs22 q57 q1271) (zrecv cx hx9 rfl) (by decide +kernel) rfl (rest := []) rfl hl (Nat.le_of_ble_eq_true rfl) (by decide) (by omega) dX4_isFresh_9 hS (fun q h => Nat.le_trans hS.1 h) (fun v9 H locs hp9 hz9 hk9 hS => ?_)
    have hE9 := Ext.of hz9 hk9 (fun q h => h)
    subst hp9
    refine lv_aload_n hx hb dX4_isFresh_12 rfl (lv_at hl 1 rfl) ?_
    refine z_get cx (k0 := 3) (hg9.ext (Ext.ofS hS)) rfl in_X8 (by decide) q1300 rfl rfl dX4_isFresh_13 ?_
    refine z_icmp_ge cx (tgt := 23) dX4_isFresh_16 (by decide) (by omega) (fun c16 => ?_) (fun c16 => ?_)
    · refine lv_iconst (v := iI (0)) hx hb dX4_isFresh_23 rfl ?_
      exact z_iret cx hQ rfl rfl (by rw [e9, decide_eq_false (by omega)]; rfl) hS (by omega) dX4_isFresh_24
    · refine lv_iconst (v := iI (1)) hx hb dX4_isFresh_19 rfl ?_
      refine lv_goto (tgt := 24) hx hb dX4_isFresh_20 (by decide) ?_
      exact z_iret cx hQ rfl rfl (by rw [e9, decide_eq_true (by omega)]; rfl) hS (by omega) dX4_isFresh_24
set_option maxHeartbeats 4000000 in
set_option maxRecDepth 100000 in
theorem m_X4_use (G : zE) (l : Launch) (H0 : Heap) (x g : Nat) (ev : Int64) (f0 f1 f2 f3 f4 f5 f6 f7 f8 f9 f10 f11 : Value) (u0 u1 u2 u3 u4 u6 u7 u8 : Value) (hg9 : Ob G H0 g 7 [f0, f1, f2, f3, f4, f5, f6, f7, f8, f9, f10, f11]) (hx9 : Ob G H0 x 5 [u0, u1, u2, u3, u4, .long ev, u6, u7, u8]) (hxg : x ≠ g) {mc ms : Nat}  : zV G l yX4_use (ws_ yX4_use cX4_use 2 (none)) 0 0 mc ms [.ref x, .ref g] H0 (fun H1 => Ob G H1 g 7 [f0, f1, f2, f3, f4, f5, f6, f7, f8, f9, f10, .long (ev + 1)] ∧ Ob G H1 x 5 [u0, u1, u2, u3, u4, .long (ev + 1), u6, u7, u8]) (fun q => H0.size ≤ q ∨ q = x ∨ q = g) := by
  refine zV.start (cc := cX4_use) (by decide) (Nat.le_of_ble_eq_true rfl) ?_
  intro p e s m args below meth c Q cx hQ hmn ls hl
  have hx := cx.1
  have hb := cx.2.1
  have hS : va_S (fun q => H0.size ≤ q ∨ q = x ∨ q = g) H0 H0 [] := va_S.rf
  have hl : lv_has ls 2 [(0, .ref x), (1, .ref g)] := hl
  refine lv_aload_n hx hb dX4_use_0 rfl (lv_at hl 0 rfl) ?_
  refine lv_dup hx hb dX4_use_1 rfl ?_
  refine z_get cx (k0 := 5) hx9 rfl in_X4 (by decide) q1160 rfl rfl dX4_use_2 ?_
  refine lv_lconst (v := 1) hx hb dX4_use_5 (by decide) ?_
  refine lv_ladd hx hb dX4_use_6 ?_
  refine z_put cx (k0 := 5) (vs' := [u0, u1, u2, u3, u4, .long (ev + 1), u6, u7, u8]) hx9 (Or.inr (Or.inl rfl)) hS rfl in_X4 tyX4_ok nmX4 (by decide) q1160 rfl rfl  rfl (Nat.le_of_ble_eq_true rfl) ⟨rfl, rfl⟩ dX4_use_7 (fun H locs hx9 hz9 hq9 hS => ?_)
  have hg9 := hg9.kept (hq9 _ (Ne.symm hxg))
  refine lv_aload_n hx hb dX4_use_10 rfl (lv_at hl 1 rfl) ?_
  refine lv_aload_n hx hb dX4_use_11 rfl (lv_at hl 0 rfl) ?_
  refine z_get cx (k0 := 5) hx9 rfl in_X4 (by decide) q1160 rfl rfl dX4_use_12 ?_
  refine z_put cx (k0 := 11) (vs' := [f0, f1, f2, f3, f4, f5, f6, f7, f8, f9, f10, .long (ev + 1)]) hg9 (Or.inr (Or.inr rfl)) hS rfl in_X8 tyX8_ok nmX8 (by decide) q1308 rfl rfl  rfl (Nat.le_of_ble_eq_true rfl) ⟨rfl, rfl⟩ dX4_use_15 (fun H locs hg9 hz9 hq9 hS => ?_)
  have hx9 := hx9.kept (hq9 _ hxg)
  exact z_vret cx hQ rfl (⟨hg9, hx9⟩) hS (by omega) dX4_use_18
