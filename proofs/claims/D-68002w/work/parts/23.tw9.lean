/-! ===== the model: words and times of a thing ===== -/
set_option maxHeartbeats 4000000 in
set_option maxRecDepth 100000 in
theorem m_X4_cacheControl (G : zE) (l : Launch) (H0 : Heap)  {mc ms : Nat} (hmc : 1 ≤ mc) (hms : 16 ≤ ms) : zR G l yX4_cacheControl (ws_ yX4_cacheControl cX4_cacheControl 0 (some (FieldType.array FieldType.int))) 1 27 mc ms [] H0 (fun r H1 => ∃ b : Nat, r = .ref b ∧ H0.size ≤ b ∧ Ai G H1 b 101 nCc) (Pur H0) := by
  refine zR.start (cc := cX4_cacheControl) (by decide) (Nat.le_of_ble_eq_true rfl) ?_
  intro p e s m args below meth c Q cx hQ hmn ls hl
  have hx := cx.1
  have hb := cx.2.1
  have hS : va_S (Pur H0) H0 H0 [] := va_S.rf
  have hl : lv_has ls 0 [] := hl
  refine lv_ldc2 hx hb cx.wn (cx.ts _ q1215) dX4_cacheControl_0 ?_
  refine lv_ldc2 hx hb cx.wn (cx.ts _ q1216) dX4_cacheControl_3 ?_
  refine z_callS cx (j := 2) (m_X4_name G l _ 7161114182521021295 474400059244 (mc := 1) (ms := 16) (Nat.le_refl _) (Nat.le_refl _)) (lw_S q1217 q1218 q57 q1219) (by decide +kernel) rfl (rest := []) rfl hl (Nat.le_of_ble_eq_true rfl) (by decide) (by omega) dX4_cacheControl_6 hS (fun q h => Nat.le_trans hS.1 h) (fun v6 H locs hp6 hz9 hk9 hS => ?_)
  have hE9 := Ext.of hz9 hk9 (fun q h => h)
  obtain ⟨b, rfl, hgb, Ab⟩ := hp6
  rw [nm_cc] at Ab
  exact z_aret cx hQ rfl (Or.inr ⟨_, rfl⟩) (⟨b, rfl, hgb, Ab⟩) hS (by omega) dX4_cacheControl_9
set_option maxHeartbeats 4000000 in
set_option maxRecDepth 100000 in
theorem m_X4_etagOf (G : zE) (l : Launch) (H0 : Heap) (P : Nat → Prop) (a : Nat) (cs : List Int) (lz : Lns) (ha : Tx G P H0 a cs lz) {mc ms : Nat} (hmc : 1 + vC nEtag none (tln cs lz) ≤ mc) (hms : 16 + vS nEtag none (tln cs lz) ≤ ms) : zR G l yX4_etagOf (ws_ yX4_etagOf cX4_etagOf 2 (some (FieldType.array FieldType.int))) 2 52 mc ms [.ref a] H0 (fun r H1 => ∃ r0 : Option Nat, r = va_rf r0 ∧ Orw G (Pur H0) H1 r0 (etg (tln cs lz))) (Pur H0) := by
  refine zR.start (cc := cX4_etagOf) (by decide) (Nat.le_of_ble_eq_true rfl) ?_
  intro p e s m args below meth c Q cx hQ hmn ls hl
  have hx := cx.1
  have hb := cx.2.1
  have hS : va_S (Pur H0) H0 H0 [] := va_S.rf
  have hl : lv_has ls 2 [(0, .ref a)] := hl
  refine lv_aload_n hx hb dX4_etagOf_0 rfl (lv_at hl 0 rfl) ?_
  refine lv_ldc2 hx hb cx.wn (cx.ts _ q1338) dX4_etagOf_1 ?_
  refine lv_lconst (v := 0) hx hb dX4_etagOf_4 (by decide) ?_
  refine z_callS cx (j := 2) (m_X4_name G l _ 1702125927 0 (mc := 1) (ms := 16) (Nat.le_refl _) (Nat.le_refl _)) (lw_S q1217 q1218 q57 q1219) (by decide +kernel) rfl (rest := [.ref a]) rfl hl (Nat.le_of_ble_eq_true rfl) (by decide) (by omega) dX4_etagOf_5 hS (fun q h => Nat.le_trans hS.1 h) (fun v5 H locs hp5 hz9 hk9 hS => ?_)
  have hE9 := Ext.of hz9 hk9 (fun q h => h)
  obtain ⟨b, rfl, hgb, Ab⟩ := hp5
  rw [nm_etag] at Ab
  refine z_callS cx (j := 2) (m_X4_valueOf G l _ P a b cs lz nEtag (ha.ext (Ext.ofS hS)) Ab ok_etag (mc := vC nEtag none (tln cs lz)) (ms := vS nEtag none (tln cs lz)) (Nat.le_refl _) (Nat.le_refl _)) (lw_S q1220 q1221 q57 q1222) (by decide +kernel) rfl (rest := []) rfl hl (Nat.le_of_ble_eq_true rfl) (by decide) (by omega) dX4_etagOf_8 hS (fun q h => Nat.le_trans hS.1 h) (fun v8 H locs hp8 hz9 hk9 hS => ?_)
  have hE9 := Ext.of hz9 hk9 (fun q h => h)
  obtain ⟨r0, rfl, hR⟩ := hp8
  have hR := hR.kp (P' := Pur H0) (Kp.weak (fun q _ h => by have : _ ≤ q := h; show H0.size ≤ q; omega))
  cases hv : vof (tln cs lz) nEtag with
  | none =>
    rw [hv] at hR
    have hr9 := hR.n
    subst hr9
    refine lv_astore_nN (lv' := [(1, .null), (0, .ref a)]) hx hb dX4_etagOf_11 rfl hl (by decide) rfl (fun ls hl => ?_)
    refine lv_aload_nN hx hb dX4_etagOf_12 rfl (lv_at hl 0 rfl) ?_
    refine lv_ifnullN (tgt := 21) hx hb dX4_etagOf_13 (by decide) ?_
    refine lv_null hx hb dX4_etagOf_21 ?_
    refine lv_goto (tgt := 26) hx hb dX4_etagOf_22 (by decide) ?_
    exact z_nret cx hQ rfl (Or.inr ⟨_, rfl⟩) (⟨none, rfl, by rw [etg, hv]; trivial⟩) hS (by omega) dX4_etagOf_26
  | some v =>
    rw [hv] at hR
    obtain ⟨w, hr9, hPw, hw⟩ := hR.s
    subst hr9
    refine lv_astore_n (lv' := [(1, .ref w), (0, .ref a)]) hx hb dX4_etagOf_11 rfl hl (by decide) rfl (fun ls hl => ?_)
    refine lv_aload_n hx hb dX4_etagOf_12 rfl (lv_at hl 0 rfl) ?_
    refine lv_ifnull hx hb dX4_etagOf_13 ?_
    refine lv_aload_n hx hb dX4_etagOf_16 rfl (lv_at hl 0 rfl) ?_
    refine z_alen cx hw dX4_etagOf_17 ?_
    refine z_if_ne cx (tgt := 25) dX4_etagOf_18 (by decide) (by have : v.length ≤ 30100 := (by obtain ⟨-, _, _, _, _, _, _, _, -, -, -, -, -, -, hl9, hch, hcl, -⟩ := ha; exact (vof_ok hch hcl hl9.2.2.2).2 v hv); omega) (fun c18 => ?_) (fun c18 => ?_)
    · refine lv_aload_n hx hb dX4_etagOf_25 rfl (lv_at hl 0 rfl) ?_
      exact z_aret cx hQ rfl (Or.inr ⟨_, rfl⟩) (⟨some w, rfl, by cases v with | nil => exact absurd rfl c18 | cons d v => rw [etg, hv]; exact hR⟩) hS (by omega) dX4_etagOf_26
    · refine lv_null hx hb dX4_etagOf_21 ?_
      refine lv_goto (tgt := 26) hx hb dX4_etagOf_22 (by decide) ?_
      exact z_nret cx hQ rfl (Or.inr ⟨_, rfl⟩) (⟨none, rfl, by cases v with | nil => rw [etg, hv]; trivial | cons d v => exact absurd c18 (by simp; omega)⟩) hS (by omega) dX4_etagOf_26
set_option maxHeartbeats 4000000 in
set_option maxRecDepth 100000 in
theorem m_X4_has (G : zE) (l : Launch) (H0 : Heap) (P : Nat → Prop) (r0 : Option Nat) (v : Option (List Int)) (u w : Int64) (nm : List Int) (hnm : nmL u w = nm) (hok : nOk nm) (h1 : Orw G P H0 r0 v) (hcv : ochs v ∧ olen v 40000) {mc ms : Nat} (hmc : 1 + wC v ≤ mc) (hms : 16 + wS v ≤ ms) : zR G l yX4_has (ws_ yX4_has cX4_has 5 (some FieldType.boolean)) 4 91 mc ms [va_rf r0, .long u, .long w] H0 (fun r _ => r = .int (iI (b2i (hasW v nm)))) (Pur H0) := by
  refine zR.start (cc := cX4_has) (by decide) (by cases r0 <;> exact (Nat.le_of_ble_eq_true rfl)) ?_
  intro p e s m args below meth c Q cx hQ hmn ls hl
  have hx := cx.1
  have hb := cx.2.1
  have hS : va_S (Pur H0) H0 H0 [] := va_S.rf
  have hl : lv_has ls 5 [(0, va_rf r0), (1, .long u), (3, .long w)] := (by cases r0 <;> exact hl)
  have hwr := wrd_rg v nm
  refine z_aload_nq cx dX4_has_0 rfl (lv_at hl 0 rfl) ?_
  refine lv_lload_n hx hb dX4_has_1 rfl (lv_at hl 1 rfl) ?_
  refine lv_lload_n hx hb dX4_has_2 rfl (lv_at hl 2 rfl) ?_
  refine z_callS cx (j := 2) (m_X4_name G l _ u w (mc := 1) (ms := 16) (Nat.le_refl _) (Nat.le_refl _)) (lw_S q1217 q1218 q57 q1219) (by decide +kernel) rfl (rest := [va_rf r0]) rfl hl (by cases r0 <;> exact (Nat.le_of_ble_eq_true rfl)) (by decide) (by omega) dX4_has_3 hS (fun q h => Nat.le_trans hS.1 h) (fun v3 H locs hp3 hz9 hk9 hS => ?_)
  have hE9 := Ext.of hz9 hk9 (fun q h => h)
  obtain ⟨b, rfl, hgb, Ab⟩ := hp3
  rw [hnm] at Ab
  refine z_callS cx (j := 2) (m_X4_word G l _ P b r0 v nm (h1.kp (Kp.ext (Ext.ofS hS))) Ab hcv hok (mc := wC v) (ms := wS v) (Nat.le_refl _) (Nat.le_refl _)) (lw_S q1258 q1259 q57 q1260) (by decide +kernel) rfl (rest := []) rfl hl (Nat.le_of_ble_eq_true rfl) (by decide) (by omega) dX4_has_6 hS (fun q h => Nat.le_trans hS.1 h) (fun v6 H locs hp6 hz9 hk9 hS => ?_)
  have hE9 := Ext.of hz9 hk9 (fun q h => h)
  subst hp6
  refine lv_bipush (v := iI (-2)) hx hb dX4_has_9 (by decide) ?_
  refine z_icmp_eq cx (tgt := 18) dX4_has_11 (by decide) (by omega) (fun c11 => ?_) (fun c11 => ?_)
  · refine lv_iconst (v := iI (0)) hx hb dX4_has_18 rfl ?_
    exact z_iret cx hQ rfl rfl (by simp only [hasW, b2i, decide_eq_true_eq]; congr 2; split <;> omega) hS (by omega) dX4_has_19
  · refine lv_iconst (v := iI (1)) hx hb dX4_has_14 rfl ?_
    refine lv_goto (tgt := 19) hx hb dX4_has_15 (by decide) ?_
    exact z_iret cx hQ rfl rfl (by simp only [hasW, b2i, decide_eq_true_eq]; congr 2; split <;> omega) hS (by omega) dX4_has_19
set_option maxHeartbeats 4000000 in
set_option maxRecDepth 100000 in
theorem m_X4_ageOf (G : zE) (l : Launch) (H0 : Heap) (x g : Nat) (ag ti si : Int) (vx vg : List Value) (hx9 : Ob G H0 x 5 vx) (hg9 : Ob G H0 g 7 vg) (h1 : vx[3]? = some (.int (iI ti))) (h2 : vg[4]? = some (.int (iI ag))) (h3 : vg[5]? = some (.int (iI si))) {mc ms : Nat}  : zR G l yX4_ageOf (ws_ yX4_ageOf cX4_ageOf 2 (some FieldType.int)) 0 0 mc ms [.ref x, .ref g] H0 (fun r _ => r = .int (iI (ag + ti - si))) (Pur H0) := by
  refine zR.start (cc := cX4_ageOf) (by decide) (Nat.le_of_ble_eq_true rfl) ?_
  intro p e s m args below meth c Q cx hQ hmn ls hl
  have hx := cx.1
  have hb := cx.2.1
  have hS : va_S (Pur H0) H0 H0 [] := va_S.rf
  have hl : lv_has ls 2 [(0, .ref x), (1, .ref g)] := hl
  refine lv_aload_n hx hb dX4_ageOf_0 rfl (lv_at hl 1 rfl) ?_
  refine z_get cx (k0 := 4) hg9 rfl in_X8 (by decide) q1301 rfl h2 dX4_ageOf_1 ?_
  refine lv_aload_n hx hb dX4_ageOf_4 rfl (lv_at hl 0 rfl) ?_
  refine z_get cx (k0 := 3) hx9 rfl in_X4 (by decide) q1158 rfl h1 dX4_ageOf_5 ?_
  refine z_iadd cx (z := ag + ti) dX4_ageOf_8 rfl ?_
  refine lv_aload_n hx hb dX4_ageOf_9 rfl (lv_at hl 1 rfl) ?_
  refine z_get cx (k0 := 5) hg9 rfl in_X8 (by decide) q1302 rfl h3 dX4_ageOf_10 ?_
  refine z_isub cx (z := ag + ti - si) dX4_ageOf_13 rfl ?_
  exact z_iret cx hQ rfl rfl rfl hS (by omega) dX4_ageOf_14
