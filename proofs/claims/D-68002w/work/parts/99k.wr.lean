/-! ===== the law's own methods ===== -/
def bL (b : Bool) : Int64 := if b = true then 1 else 0
set_option maxHeartbeats 4000000 in
set_option maxRecDepth 100000 in
theorem m_X0_ask (G : zE) (l : Launch) (H0 : Heap) (hl0 : l.stackTraces = false) (x o : Nat) (p0 : Int) (v0 : Int64) (cs : List Bool) (g : Sg) (hB : Bh G H0) (hR : RepC G H0 x cs g) (ho : Al G H0 o v0) (hz : rg p0) (hu : gUse g < 99999) {mc ms : Nat} (hmc : 43 * (gTape g).length + 100 ≤ mc) (hms : (116 + 2 * (gTape g).length) * (gTape g).length + 378 * (gTape g).length + 1100 ≤ ms) : zX G l yX0_ask (wsW_ yX0_ask cX0_ask 4 (some FieldType.int) [(0, 9, 12, 13)]) 21 479 mc ms [.ref x, .int (iI p0), .ref o] H0 exIA (fun r H1 => (rdOk g p0 = true ∧ r = .int (iI 0) ∧ Al G H1 o (iI (askA g p0)).toInt64 ∧ ∃ cs' : List Bool, RepC G H1 x cs' (askS g p0)) ∨ (rdOk g p0 = false ∧ r = .int (iI 1) ∧ Al G H1 o v0 ∧ RepC G H1 x cs (rdS g))) (fun _ => False) (fun q => AC G H0 q ∨ q = o) := by
  refine zXW.start (cc := cX0_ask) (by decide) (Nat.le_of_ble_eq_true rfl) ?_
  intro p e s m args below meth c Q cx hQ htb ls hl
  have hx := cx.1
  have hb := cx.2.1
  have hS : va_S (fun q => AC G H0 q ∨ q = o) H0 H0 [] := va_S.rf
  have hl : lv_has ls 4 [(0, .ref x), (1, .int (iI p0)), (2, .ref o)] := hl
  obtain ⟨tp, th, ed, cap, rq, wi, mz, as, rs, pad, hx0, -⟩ := id hR
  refine lv_aload_n hx hb dX0_ask_0 rfl (lv_at hl 2 rfl) ?_
  refine lv_iconst (v := iI (0)) hx hb dX0_ask_1 rfl ?_
  refine lv_aload_n hx hb dX0_ask_2 rfl (lv_at hl 0 rfl) ?_
  refine lv_iload_n hx hb dX0_ask_3 rfl (lv_at hl 1 rfl) ?_
  refine z_callVX cx (j := 1) (m_X1_ask G l _ hl0 x p0 cs g hB hR hz hu (mc := mc) (ms := ms) hmc hms) (lw_V q722 q723 q724 q32 q725) (zrecv cx hx0 rfl) (by decide +kernel) rfl (rest := [.int (iI 0), .ref o]) rfl hl (Nat.le_of_ble_eq_true rfl) (by decide) (by omega) dX0_ask_4 hS (fun q h => Or.inl h) (fun q9 ce9 H locs hp4 hz9 hk9 hS hce9 hcv9 hcl9 => ?_) (fun v4 H locs hp4 hz9 hk9 hS => ?_)
  · refine z_catch cx htb (by decide) (by decide) q721 q316 hce9 hcv9 hcl9 ?_
    refine lv_astore_n (lv' := [(3, .ref q9), (0, .ref x), (1, .int (iI p0)), (2, .ref o)]) hx hb dX0_ask_12 rfl hl (by decide) rfl (fun ls hl => ?_)
    refine lv_iconst (v := iI (1)) hx hb dX0_ask_13 rfl ?_
    subst hQ
    exact vx_ret (z_iret cx rfl rfl rfl (Or.inr ⟨hp4.1, rfl, ho.overC cx.kk hk9, hp4.2⟩) hS (by omega) dX0_ask_14)
  obtain ⟨hrd, rfl, cs9, hR9⟩ := hp4
  have ho := ho.overC cx.kk hk9
  have ho8 := ho
  refine lv_i2l (v := (iI (askA g p0)).toInt64) hx hb dX0_ask_7 rfl ?_
  refine z_last cx ho (Or.inr rfl) hS dX0_ask_8 (fun H locs ho hz9 hq9 hS => ?_)
  have hR9 := hR9.overL cx.kk ho8 hq9
  refine lv_goto (tgt := 15) hx hb dX0_ask_9 (by decide) ?_
  refine lv_iconst (v := iI (0)) hx hb dX0_ask_15 rfl ?_
  subst hQ
  exact vx_ret (z_iret cx rfl rfl rfl (Or.inl ⟨hrd, rfl, ho, cs9, hR9⟩) hS (by omega) dX0_ask_16)
set_option maxHeartbeats 4000000 in
set_option maxRecDepth 100000 in
theorem m_X0_keep (G : zE) (l : Launch) (H0 : Heap) (hl0 : l.stackTraces = false) (x o : Nat) (p0 : Int) (v0 : Int64) (cs : List Bool) (g : Sg) (hB : Bh G H0) (hR : RepC G H0 x cs g) (ho : Al G H0 o v0) (hz : rg p0) (hu : gUse g < 99999) (hI1 : NLk (gTs g)) (hI2 : ∀ t ∈ gTs g, tUsed t ≤ gUse g) {mc ms : Nat} (hm0 : 10 * (gTape g).length + 31 ≤ mc ∧ (116 + 2 * (gTape g).length) * (gTape g).length + 28 * (gTape g).length + 506 ≤ ms) (hmc : Imp (rdOk g p0 = true) (uC cs (mrg (gReq g)) + 50 * (gTape g).length + 200 ≤ uC (csV (mrg (gReq g)) cs (kVy (rdX g))) (mrg (gReq g)) + mc)) (hms : Imp (rdOk g p0 = true) (uS cs (mrg (gReq g)) + (116 + 2 * (gTape g).length) * (gTape g).length + 150 * (gTape g).length + 2000 ≤ uS (csV (mrg (gReq g)) cs (kVy (rdX g))) (mrg (gReq g)) + ms)) : zX G l yX0_keep (wsW_ yX0_keep cX0_keep 4 (some FieldType.int) [(0, 16, 19, 13)]) 21 481 mc ms [.ref x, .int (iI p0), .ref o] H0 exIA (fun r H1 => (rdOk g p0 = true ∧ r = .int (iI 0) ∧ Al G H1 o (bL (kMay g p0)) ∧ RepC G H1 x (csV (mrg (gReq g)) cs (kVy (rdX g))) (keepS g p0)) ∨ (rdOk g p0 = false ∧ r = .int (iI 1) ∧ Al G H1 o v0 ∧ RepC G H1 x cs (rdS g))) (fun _ => False) (fun q => AC G H0 q ∨ q = o) := by
  refine zXW.start (cc := cX0_keep) (by decide) (Nat.le_of_ble_eq_true rfl) ?_
  intro p e s m args below meth c Q cx hQ htb ls hl
  have hx := cx.1
  have hb := cx.2.1
  have hS : va_S (fun q => AC G H0 q ∨ q = o) H0 H0 [] := va_S.rf
  have hl : lv_has ls 4 [(0, .ref x), (1, .int (iI p0)), (2, .ref o)] := hl
  obtain ⟨tp, th, ed, cap, rq, wi, mz, as, rs, pad, hx0, -⟩ := id hR
  refine lv_aload_n hx hb dX0_keep_0 rfl (lv_at hl 2 rfl) ?_
  refine lv_iconst (v := iI (0)) hx hb dX0_keep_1 rfl ?_
  refine lv_aload_n hx hb dX0_keep_2 rfl (lv_at hl 0 rfl) ?_
  refine lv_iload_n hx hb dX0_keep_3 rfl (lv_at hl 1 rfl) ?_
  refine z_callVX cx (j := 1) (m_X1_keep G l _ hl0 x p0 cs g hB hR hz hu hI1 hI2 (mc := mc) (ms := ms) hm0 hmc hms) (lw_V q871 q872 q873 q32 q874) (zrecv cx hx0 rfl) (by decide +kernel) rfl (rest := [.int (iI 0), .ref o]) rfl hl (Nat.le_of_ble_eq_true rfl) (by decide) (by omega) dX0_keep_4 hS (fun q h => Or.inl h) (fun q9 ce9 H locs hp4 hz9 hk9 hS hce9 hcv9 hcl9 => ?_) (fun v4 H locs hp4 hz9 hk9 hS => ?_)
  · refine z_catch cx htb (by decide) (by decide) q721 q316 hce9 hcv9 hcl9 ?_
    refine lv_astore_n (lv' := [(3, .ref q9), (0, .ref x), (1, .int (iI p0)), (2, .ref o)]) hx hb dX0_keep_19 rfl hl (by decide) rfl (fun ls hl => ?_)
    refine lv_iconst (v := iI (1)) hx hb dX0_keep_20 rfl ?_
    subst hQ
    exact vx_ret (z_iret cx rfl rfl rfl (Or.inr ⟨hp4.1, rfl, ho.overC cx.kk hk9, hp4.2⟩) hS (by omega) dX0_keep_21)
  obtain ⟨hrd, rfl, hR9⟩ := hp4
  have ho := ho.overC cx.kk hk9
  have ho8 := ho
  have hr1 := b2i_rg (kMay g p0)
  clear hmc hms hm0
  refine z_if_eq cx (tgt := 14) dX0_keep_7 (by decide) (by omega) (fun c7 => ?_) (fun c7 => ?_)
  · have hb0 := b2i_eq0 c7
    refine lv_lconst (v := 0) hx hb dX0_keep_14 (by decide) ?_
    refine z_last cx ho (Or.inr rfl) hS dX0_keep_15 (fun H locs ho hz9 hq9 hS => ?_)
    have hR9 := hR9.overL cx.kk ho8 hq9
    refine lv_goto (tgt := 22) hx hb dX0_keep_16 (by decide) ?_
    refine lv_iconst (v := iI (0)) hx hb dX0_keep_22 rfl ?_
    subst hQ
    exact vx_ret (z_iret cx rfl rfl rfl (Or.inl ⟨hrd, rfl, by rw [hb0]; exact ho, hR9⟩) hS (by omega) dX0_keep_23)
  · have hb0 := b2i_ne0 c7
    refine lv_lconst (v := 1) hx hb dX0_keep_10 (by decide) ?_
    refine lv_goto (tgt := 15) hx hb dX0_keep_11 (by decide) ?_
    refine z_last cx ho (Or.inr rfl) hS dX0_keep_15 (fun H locs ho hz9 hq9 hS => ?_)
    have hR9 := hR9.overL cx.kk ho8 hq9
    refine lv_goto (tgt := 22) hx hb dX0_keep_16 (by decide) ?_
    refine lv_iconst (v := iI (0)) hx hb dX0_keep_22 rfl ?_
    subst hQ
    exact vx_ret (z_iret cx rfl rfl rfl (Or.inl ⟨hrd, rfl, by rw [hb0]; exact ho, hR9⟩) hS (by omega) dX0_keep_23)
set_option maxHeartbeats 4000000 in
set_option maxRecDepth 100000 in
theorem m_X0_again (G : zE) (l : Launch) (H0 : Heap) (hl0 : l.stackTraces = false) (x o : Nat) (p0 : Int) (v0 : Int64) (cs : List Bool) (g : Sg) (hB : Bh G H0) (hR : RepC G H0 x cs g) (ho : Al G H0 o v0) (hz : rg p0) (hu : gUse g < 99999) {mc ms : Nat} (hm0 : 10 * (gTape g).length + 31 ≤ mc ∧ (116 + 2 * (gTape g).length) * (gTape g).length + 28 * (gTape g).length + 506 ≤ ms) (hmc : Imp (rdOk g p0 = true) (uC cs (mrg (gReq g)) + 30 * (gTape g).length + 100 ≤ uC (csO (mrg (gReq g)) p0 (gTs g) (gTs g).length cs) (mrg (gReq g)) + mc)) (hms : Imp (rdOk g p0 = true) (uS cs (mrg (gReq g)) + (116 + 2 * (gTape g).length) * (gTape g).length + 100 * (gTape g).length + 1200 ≤ uS (csO (mrg (gReq g)) p0 (gTs g) (gTs g).length cs) (mrg (gReq g)) + ms)) : zX G l yX0_again (wsW_ yX0_again cX0_again 4 (some FieldType.int) [(0, 16, 19, 13)]) 21 479 mc ms [.ref x, .int (iI p0), .ref o] H0 exIA (fun r H1 => (rdOk g p0 = true ∧ r = .int (iI 0) ∧ Al G H1 o (bL (agnA g p0)) ∧ RepC G H1 x (csO (mrg (gReq g)) p0 (gTs g) (gTs g).length cs) (agnS g p0)) ∨ (rdOk g p0 = false ∧ r = .int (iI 1) ∧ Al G H1 o v0 ∧ RepC G H1 x cs (rdS g))) (fun _ => False) (fun q => AC G H0 q ∨ q = o) := by
  refine zXW.start (cc := cX0_again) (by decide) (Nat.le_of_ble_eq_true rfl) ?_
  intro p e s m args below meth c Q cx hQ htb ls hl
  have hx := cx.1
  have hb := cx.2.1
  have hS : va_S (fun q => AC G H0 q ∨ q = o) H0 H0 [] := va_S.rf
  have hl : lv_has ls 4 [(0, .ref x), (1, .int (iI p0)), (2, .ref o)] := hl
  obtain ⟨tp, th, ed, cap, rq, wi, mz, as, rs, pad, hx0, -⟩ := id hR
  refine lv_aload_n hx hb dX0_again_0 rfl (lv_at hl 2 rfl) ?_
  refine lv_iconst (v := iI (0)) hx hb dX0_again_1 rfl ?_
  refine lv_aload_n hx hb dX0_again_2 rfl (lv_at hl 0 rfl) ?_
  refine lv_iload_n hx hb dX0_again_3 rfl (lv_at hl 1 rfl) ?_
  refine z_callVX cx (j := 1) (m_X1_again G l _ hl0 x p0 cs g hB hR hz hu (mc := mc) (ms := ms) hm0 hmc hms) (lw_V q1089 q1090 q1091 q32 q1092) (zrecv cx hx0 rfl) (by decide +kernel) rfl (rest := [.int (iI 0), .ref o]) rfl hl (Nat.le_of_ble_eq_true rfl) (by decide) (by omega) dX0_again_4 hS (fun q h => Or.inl h) (fun q9 ce9 H locs hp4 hz9 hk9 hS hce9 hcv9 hcl9 => ?_) (fun v4 H locs hp4 hz9 hk9 hS => ?_)
  · refine z_catch cx htb (by decide) (by decide) q721 q316 hce9 hcv9 hcl9 ?_
    refine lv_astore_n (lv' := [(3, .ref q9), (0, .ref x), (1, .int (iI p0)), (2, .ref o)]) hx hb dX0_again_19 rfl hl (by decide) rfl (fun ls hl => ?_)
    refine lv_iconst (v := iI (1)) hx hb dX0_again_20 rfl ?_
    subst hQ
    exact vx_ret (z_iret cx rfl rfl rfl (Or.inr ⟨hp4.1, rfl, ho.overC cx.kk hk9, hp4.2⟩) hS (by omega) dX0_again_21)
  obtain ⟨hrd, rfl, hR9⟩ := hp4
  have ho := ho.overC cx.kk hk9
  have ho8 := ho
  have hr1 := b2i_rg (agnA g p0)
  clear hmc hms hm0
  refine z_if_eq cx (tgt := 14) dX0_again_7 (by decide) (by omega) (fun c7 => ?_) (fun c7 => ?_)
  · have hb0 := b2i_eq0 c7
    refine lv_lconst (v := 0) hx hb dX0_again_14 (by decide) ?_
    refine z_last cx ho (Or.inr rfl) hS dX0_again_15 (fun H locs ho hz9 hq9 hS => ?_)
    have hR9 := hR9.overL cx.kk ho8 hq9
    refine lv_goto (tgt := 22) hx hb dX0_again_16 (by decide) ?_
    refine lv_iconst (v := iI (0)) hx hb dX0_again_22 rfl ?_
    subst hQ
    exact vx_ret (z_iret cx rfl rfl rfl (Or.inl ⟨hrd, rfl, by rw [hb0]; exact ho, hR9⟩) hS (by omega) dX0_again_23)
  · have hb0 := b2i_ne0 c7
    refine lv_lconst (v := 1) hx hb dX0_again_10 (by decide) ?_
    refine lv_goto (tgt := 15) hx hb dX0_again_11 (by decide) ?_
    refine z_last cx ho (Or.inr rfl) hS dX0_again_15 (fun H locs ho hz9 hq9 hS => ?_)
    have hR9 := hR9.overL cx.kk ho8 hq9
    refine lv_goto (tgt := 22) hx hb dX0_again_16 (by decide) ?_
    refine lv_iconst (v := iI (0)) hx hb dX0_again_22 rfl ?_
    subst hQ
    exact vx_ret (z_iret cx rfl rfl rfl (Or.inl ⟨hrd, rfl, by rw [hb0]; exact ho, hR9⟩) hS (by omega) dX0_again_23)
set_option maxHeartbeats 4000000 in
set_option maxRecDepth 100000 in
theorem m_X0_pass (G : zE) (l : Launch) (H0 : Heap) (hl0 : l.stackTraces = false) (x o : Nat) (z : Int) (v0 : Int64) (cs : List Bool) (g : Sg) (hB : Bh G H0) (hR : RepC G H0 x cs g) (ho : Al G H0 o v0) (hz : rg z) {mc ms : Nat} (hmc : 1 ≤ mc) (hms : 6 ≤ ms) : zX G l yX0_pass (wsW_ yX0_pass cX0_pass 4 (some FieldType.int) [(0, 9, 12, 13)]) 7 111 mc ms [.ref x, .int (iI z), .ref o] H0 exIA (fun r H1 => (passOk g z = true ∧ r = .int (iI 0) ∧ Al G H1 o (iI (gTime g + z)).toInt64 ∧ RepC G H1 x cs (gTape g, gFault g, gTime g + z, gReq g, gTs g, gUse g)) ∨ (passOk g z = false ∧ r = .int (iI 1) ∧ Al G H1 o v0 ∧ RepC G H1 x cs g)) (fun _ => False) (fun q => AC G H0 q ∨ q = o) := by
  refine zXW.start (cc := cX0_pass) (by decide) (Nat.le_of_ble_eq_true rfl) ?_
  intro p e s m args below meth c Q cx hQ htb ls hl
  have hx := cx.1
  have hb := cx.2.1
  have hS : va_S (fun q => AC G H0 q ∨ q = o) H0 H0 [] := va_S.rf
  have hl : lv_has ls 4 [(0, .ref x), (1, .int (iI z)), (2, .ref o)] := hl
  obtain ⟨tp, th, ed, cap, rq, wi, mz, as, rs, pad, hx0, -⟩ := id hR
  refine lv_aload_n hx hb dX0_pass_0 rfl (lv_at hl 2 rfl) ?_
  refine lv_iconst (v := iI (0)) hx hb dX0_pass_1 rfl ?_
  refine lv_aload_n hx hb dX0_pass_2 rfl (lv_at hl 0 rfl) ?_
  refine lv_iload_n hx hb dX0_pass_3 rfl (lv_at hl 1 rfl) ?_
  refine z_callVX cx (j := 1) (m_X1_pass G l _ hl0 x z cs g hB hR hz (mc := mc) (ms := ms) hmc hms) (lw_V q1096 q1097 q1098 q32 q1099) (zrecv cx hx0 rfl) (by decide +kernel) rfl (rest := [.int (iI 0), .ref o]) rfl hl (Nat.le_of_ble_eq_true rfl) (by decide) (by omega) dX0_pass_4 hS (fun q h => Or.inl h) (fun q9 ce9 H locs hp4 hz9 hk9 hS hce9 hcv9 hcl9 => ?_) (fun v4 H locs hp4 hz9 hk9 hS => ?_)
  · refine z_catch cx htb (by decide) (by decide) q721 q316 hce9 hcv9 hcl9 ?_
    refine lv_astore_n (lv' := [(3, .ref q9), (0, .ref x), (1, .int (iI z)), (2, .ref o)]) hx hb dX0_pass_12 rfl hl (by decide) rfl (fun ls hl => ?_)
    refine lv_iconst (v := iI (1)) hx hb dX0_pass_13 rfl ?_
    subst hQ
    exact vx_ret (z_iret cx rfl rfl rfl (Or.inr ⟨hp4.1, rfl, ho.overC cx.kk hk9, hp4.2⟩) hS (by omega) dX0_pass_14)
  obtain ⟨hrd, rfl, hR9⟩ := hp4
  have ho := ho.overC cx.kk hk9
  have ho8 := ho
  refine lv_i2l (v := (iI (gTime g + z)).toInt64) hx hb dX0_pass_7 rfl ?_
  refine z_last cx ho (Or.inr rfl) hS dX0_pass_8 (fun H locs ho hz9 hq9 hS => ?_)
  have hR9 := hR9.overL cx.kk ho8 hq9
  refine lv_goto (tgt := 15) hx hb dX0_pass_9 (by decide) ?_
  refine lv_iconst (v := iI (0)) hx hb dX0_pass_15 rfl ?_
  subst hQ
  exact vx_ret (z_iret cx rfl rfl rfl (Or.inl ⟨hrd, rfl, ho, hR9⟩) hS (by omega) dX0_pass_16)
set_option maxHeartbeats 4000000 in
set_option maxRecDepth 100000 in
theorem m_X0_thing (G : zE) (l : Launch) (H0 : Heap) (hl0 : l.stackTraces = false) (x o : Nat) (i w : Int) (v0 : Int64) (cs : List Bool) (g : Sg) (hB : Bh G H0) (hR : RepC G H0 x cs g) (ho : Al G H0 o v0) (hi : rg i) (hw : rg w) {mc ms : Nat} (hmc : 1 ≤ mc) (hms : 6 ≤ ms) : zX G l yX0_thing (wsW_ yX0_thing cX0_thing 5 (some FieldType.int) [(0, 10, 13, 29)]) 7 152 mc ms [.ref x, .int (iI i), .int (iI w), .ref o] H0 exNE (fun r H1 => (∃ v : Int, thgA g i w = some v ∧ r = .int (iI 0) ∧ Al G H1 o (iI v).toInt64 ∧ RepC G H1 x cs g) ∨ (thgA g i w = none ∧ r = .int (iI 1) ∧ Al G H1 o v0 ∧ RepC G H1 x cs g)) (fun _ => False) (fun q => AC G H0 q ∨ q = o) := by
  refine zXW.start (cc := cX0_thing) (by decide) (Nat.le_of_ble_eq_true rfl) ?_
  intro p e s m args below meth c Q cx hQ htb ls hl
  have hx := cx.1
  have hb := cx.2.1
  have hS : va_S (fun q => AC G H0 q ∨ q = o) H0 H0 [] := va_S.rf
  have hl : lv_has ls 5 [(0, .ref x), (1, .int (iI i)), (2, .int (iI w)), (3, .ref o)] := hl
  obtain ⟨tp, th, ed, cap, rq, wi, mz, as, rs, pad, hx0, -⟩ := id hR
  refine lv_aload_n hx hb dX0_thing_0 rfl (lv_at hl 3 rfl) ?_
  refine lv_iconst (v := iI (0)) hx hb dX0_thing_1 rfl ?_
  refine lv_aload_n hx hb dX0_thing_2 rfl (lv_at hl 0 rfl) ?_
  refine lv_iload_n hx hb dX0_thing_3 rfl (lv_at hl 1 rfl) ?_
  refine lv_iload_n hx hb dX0_thing_4 rfl (lv_at hl 2 rfl) ?_
  refine z_callVX cx (j := 2) (m_X1_thing G l _ hl0 x i w cs g hB hR hi hw (mc := mc) (ms := ms) hmc hms) (lw_V q1107 q1108 q1109 q32 q1110) (zrecv cx hx0 rfl) (by decide +kernel) rfl (rest := [.int (iI 0), .ref o]) rfl hl (Nat.le_of_ble_eq_true rfl) (by decide) (by omega) dX0_thing_5 hS (fun q h => Or.inl h) (fun q9 ce9 H locs hp5 hz9 hk9 hS hce9 hcv9 hcl9 => ?_) (fun v5 H locs hp5 hz9 hk9 hS => ?_)
  · refine z_catch cx htb (by decide) (by decide) q1106 q1043 hce9 hcv9 hcl9 ?_
    refine lv_astore (lv' := [(4, .ref q9), (0, .ref x), (1, .int (iI i)), (2, .int (iI w)), (3, .ref o)]) hx hb dX0_thing_13 hl (by decide) rfl (fun ls hl => ?_)
    refine lv_iconst (v := iI (1)) hx hb dX0_thing_15 rfl ?_
    subst hQ
    exact vx_ret (z_iret cx rfl rfl rfl (Or.inr ⟨hp5.1, rfl, ho.overC cx.kk hk9, hp5.2⟩) hS (by omega) dX0_thing_16)
  obtain ⟨hR9, v9, hv9, rfl⟩ := hp5
  have ho := ho.overC cx.kk hk9
  have ho8 := ho
  refine lv_i2l (v := (iI v9).toInt64) hx hb dX0_thing_8 rfl ?_
  refine z_last cx ho (Or.inr rfl) hS dX0_thing_9 (fun H locs ho hz9 hq9 hS => ?_)
  have hR9 := hR9.overL cx.kk ho8 hq9
  refine lv_goto (tgt := 17) hx hb dX0_thing_10 (by decide) ?_
  refine lv_iconst (v := iI (0)) hx hb dX0_thing_17 rfl ?_
  subst hQ
  exact vx_ret (z_iret cx rfl rfl rfl (Or.inl ⟨v9, hv9, rfl, ho, hR9⟩) hS (by omega) dX0_thing_18)
