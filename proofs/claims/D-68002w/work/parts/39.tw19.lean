/-! ===== the model: asking ===== -/
set_option maxHeartbeats 4000000 in
set_option maxRecDepth 100000 in
theorem m_X4_ask (G : zE) (l : Launch) (H0 : Heap) (x : Nat) (p0 : Int) (thr : Int) (g : Sg) (hR : RepT G H0 x thr g) (hz : rg p0) (hu : gUse g < 99999) {mc ms : Nat} (hmc : askC g ≤ mc) (hms : askM g ≤ ms) : zR G l yX4_ask (ws_ yX4_ask cX4_ask 6 (some FieldType.int)) 6 141 mc ms [.ref x, .int (iI p0)] H0 (fun r H1 => (rdOk g p0 = true → r = .int (iI (askA g p0)) ∧ RepT G H1 x 0 (askS g p0)) ∧ (rdOk g p0 = false → r = .int (iI 0) ∧ RepT G H1 x 1 (rdS g))) (AT G H0) := by
  refine zR.start (cc := cX4_ask) (by decide) (Nat.le_of_ble_eq_true rfl) ?_
  intro p e s m args below meth c Q cx hQ hmn ls hl
  have hx := cx.1
  have hb := cx.2.1
  have hS : va_S (AT G H0) H0 H0 [] := va_S.rf
  have hl : lv_has ls 6 [(0, .ref x), (1, .int (iI p0))] := hl
  obtain ⟨tp, th, rt, as, pad, cs, lz, hx9, hR2, hm, hok⟩ := hR
  have hax := AT.x hx9 hm.2.2.2.1
  have hx8 := hx9
  have hR0 := hR2
  have hl0 := hR2.2.2.2.1
  have hn24 := hok.2.2.2.2.1
  have htm := hok.2.2.2.1
  unfold askC at hmc
  unfold askM at hms
  have hm1 : ([] : List Int).length + (gTape g ++ pad).length = 300 := by rw [List.length_append]; simp; omega
  refine lv_aload_n hx hb dX4_ask_0 rfl (lv_at hl 0 rfl) ?_
  refine z_callV cx (j := 0) (m_X4_read G l _ x tp (gTape g) pad _ _ _ _ _ _ _ hx9 hR2.1 hok.1 hok.2.1 (mc := 5) (ms := 605) (Nat.le_refl _) (Nat.le_refl _)) (lw_V q1196 q1198 qs19 q57 q1199) (zrecv cx hx9 rfl) (by decide +kernel) rfl (rest := []) rfl hl (Nat.le_of_ble_eq_true rfl) (by decide) (by omega) dX4_ask_1 hS (fun q h => by rcases h with h | h; exact Or.inl (Nat.le_trans hS.1 h); exact h ▸ hax) (fun v1 H locs hp1 hz9 hk9 hS => ?_)
  obtain ⟨hx9, hrd⟩ := hp1
  have hR2 := hR2.kl hx8 cx.kk hk9
  have hR2 := hR2.tape (tape' := []) (pad' := gTape g ++ pad) (by rw [List.nil_append])
  have bad : rdOk g p0 = false → ∀ H : Heap, Ob G H x 5 (xT tp rt th as.length (rdS g) 1) → RT2 G H x tp th rt as [] (gTape g ++ pad) cs lz (gTs g) → ((rdOk g p0 = true → (Value.int (iI 0)) = .int (iI (askA g p0)) ∧ RepT G H x 0 (askS g p0)) ∧ (rdOk g p0 = false → (Value.int (iI 0)) = .int (iI 0) ∧ RepT G H x 1 (rdS g))) := fun e9 H h1 h2 => ⟨fun h => (by rw [e9] at h; cases h), fun _ => ⟨rfl, tp, th, rt, as, gTape g ++ pad, cs, lz, h1, h2, ⟨hm1, hm.2⟩, rdS_ok hok⟩⟩
  rcases hrd with ⟨hf, t, rfl, htx⟩ | ⟨hf, rfl⟩
  · refine lv_astore_n (lv' := [(2, .ref t), (0, .ref x), (1, .int (iI p0))]) hx hb dX4_ask_4 rfl hl (by decide) rfl (fun ls hl => ?_)
    refine lv_aload_n hx hb dX4_ask_5 rfl (lv_at hl 1 rfl) ?_
    refine lv_aload_n hx hb dX4_ask_6 rfl (lv_at hl 0 rfl) ?_
    refine lv_ifnull hx hb dX4_ask_7 ?_
    refine lv_iload_n hx hb dX4_ask_10 rfl (lv_at hl 2 rfl) ?_
    refine z_callS cx (j := 1) (m_X4_isPath G l _ p0 hz (mc := 0) (ms := 0)) (lw_S q1209 q1210 q57 q1211) (by decide +kernel) rfl (rest := [.ref x]) rfl hl (Nat.le_of_ble_eq_true rfl) (by decide) (by omega) dX4_ask_11 hS (fun q h => Or.inl (Nat.le_trans hS.1 h)) (fun v11 H locs hp11 hz9 hk9 hS => ?_)
    have hE9 := Ext.of hz9 hk9 (fun q h => h)
    have hx9 := hx9.ext hE9
    have hb11 := b2i_rg (decide (0 ≤ p0 ∧ p0 < 16))
    subst hp11
    have hR2 := hR2.ext hE9
    have htx := htx.ext hE9
    have hx7 := hx9
    refine z_if_ne cx (tgt := 21) dX4_ask_14 (by decide) (by omega) (fun c14 => ?_) (fun c14 => ?_)
    · have hp9 := b2i_T c14
      have e9 : rdOk g p0 = true := decide_eq_true ⟨hf, hp9⟩
      refine lv_iconst (v := iI (0)) hx hb dX4_ask_21 rfl ?_
      refine z_put cx (k0 := 4) (vs' := [.ref tp, .int (iI 0), .int (iI ((rdT (gTape g)).1)), .int (iI (gTime g)), .int (iI 0), .long (lN (gUse g)), .ref rt, .ref th, .int (iI ↑as.length)]) hx9 hax hS rfl in_X4 tyX4_ok nmX4 (by decide) q1159 rfl rfl  rfl (Nat.le_of_ble_eq_true rfl) ⟨rfl, rfl⟩ dX4_ask_22 (fun H locs hx9 hz9 hq9 hS => ?_)
      have hR2 := hR2.kx hx7 cx.kk hq9
      have hlx7 := hx7.lt
      have htx := htx.kp (Kp.put hq9 (fun q h => by intro z; have : H0.size ≤ q := h; have := hx8.lt; omega))
      have hx6 := hx9
      refine lv_aload_n hx hb dX4_ask_25 rfl (lv_at hl 1 rfl) ?_
      refine z_get cx (k0 := 4) hx9 rfl in_X4 (by decide) q1159 rfl rfl dX4_ask_26 ?_
      refine z_if_eq cx (tgt := 34) dX4_ask_29 (by decide) (by omega) (fun c29 => ?_) (fun c29 => (by exfalso; exact c29 rfl))
      refine lv_aload_n hx hb dX4_ask_34 rfl (lv_at hl 1 rfl) ?_
      refine lv_aload_n hx hb dX4_ask_35 rfl (lv_at hl 0 rfl) ?_
      refine z_put cx (k0 := 6) (vs' := [.ref tp, .int (iI 0), .int (iI ((rdT (gTape g)).1)), .int (iI (gTime g)), .int (iI 0), .long (lN (gUse g)), .ref t, .ref th, .int (iI ↑as.length)]) hx9 hax hS rfl in_X4 tyX4_ok nmX4 (by decide) q1161 rfl rfl  rfl (Nat.le_of_ble_eq_true rfl) ⟨rfl, rfl⟩ dX4_ask_36 (fun H locs hx9 hz9 hq9 hS => ?_)
      have hR2 := hR2.kx hx6 cx.kk hq9
      have htx := htx.kp (Kp.put hq9 (fun q h => by intro z; have : H0.size ≤ q := h; have := hx8.lt; omega))
      have htp := htx.kp (P' := PT x tp th as) (Kp.weak (PT.new hR0 hx8))
      have hR2 := hR2.req htp
      rw [hf] at hx9
      refine lv_aload_n hx hb dX4_ask_39 rfl (lv_at hl 0 rfl) ?_
      refine z_callS cx (j := 0) (m_X4_cacheControl G l _ (mc := 1) (ms := 16) (Nat.le_refl _) (Nat.le_refl _)) (lw_S q1212 q1213 q57 q1214) (by decide +kernel) rfl (rest := [.ref t]) rfl hl (Nat.le_of_ble_eq_true rfl) (by decide) (by omega) dX4_ask_40 hS (fun q h => Or.inl (Nat.le_trans hS.1 h)) (fun v40 H locs hp40 hz9 hk9 hS => ?_)
      have hE9 := Ext.of hz9 hk9 (fun q h => h)
      obtain ⟨b, rfl, -, Ab⟩ := hp40
      have hx9 := hx9.ext hE9
      have hR2 := hR2.ext hE9
      have hvo : ochs (vof (rdX g) nCc) ∧ olen (vof (rdX g) nCc) 30100 := by
        obtain ⟨-, _, _, _, _, _, _, _, -, -, -, -, -, -, hl9, hch, hcl, -⟩ := hR2.2.2.1
        exact vof_ok hch hcl hl9.2.2.2
      have hvo2 : ochs (vof (rdX g) nCc) ∧ olen (vof (rdX g) nCc) 40000 := ⟨hvo.1, fun y hy => Nat.le_trans (hvo.2 y hy) (by omega)⟩
      refine z_callS cx (j := 2) (m_X4_valueOf G l _ _ t b (gTape g) (rdT (gTape g)).2 nCc hR2.2.2.1 Ab ok_cc (mc := vC nCc none (rdX g)) (ms := vS nCc none (rdX g)) (Nat.le_refl _) (Nat.le_refl _)) (lw_S q1220 q1221 q57 q1222) (by decide +kernel) rfl (rest := []) rfl hl (Nat.le_of_ble_eq_true rfl) (by decide) (by omega) dX4_ask_43 hS (fun q h => Or.inl (Nat.le_trans hS.1 h)) (fun v43 H locs hp43 hz9 hk9 hS => ?_)
      have hE9 := Ext.of hz9 hk9 (fun q h => h)
      obtain ⟨r3, rfl, hv3⟩ := hp43
      have hx9 := hx9.ext hE9
      have hR2 := hR2.ext hE9
      have hs0 := hS.1
      have hv3 := hv3.kp (P' := fun _ => True) (Kp.weak (fun _ _ _ => trivial))
      obtain ⟨IX, hIX⟩ : ∃ IX, IX = lix (isOne (rdX g) p0) (gTs g) 0 (-1) := ⟨_, rfl⟩
      refine z_astore_nq cx (lv' := [(3, va_rf r3), (2, .ref t), (0, .ref x), (1, .int (iI p0))]) dX4_ask_46 rfl hl (by decide) rfl (fun ls hl => ?_)
      refine lv_aload_n hx hb dX4_ask_47 rfl (lv_at hl 2 rfl) ?_
      refine lv_iload_n hx hb dX4_ask_48 rfl (lv_at hl 3 rfl) ?_
      refine z_callV cx (j := 1) (m_X4_theOne G l _ _ x th t as (25 - as.length) (gTape g) (rdT (gTape g)).2 (gTs g) p0 _ _ _ _ _ _ hx9 hR2.2.1 hR2.2.2.1 hR2.2.2.2 hz (by omega) (mc := theC (rdX g) (gTs g)) (ms := theS (rdX g) (gTs g)) (Nat.le_refl _) (Nat.le_refl _)) (lw_V q1232 q1234 qs20 q57 q1235) (zrecv cx hx9 rfl) (by decide +kernel) rfl (rest := []) rfl hl (Nat.le_of_ble_eq_true rfl) (by decide) (by omega) dX4_ask_49 hS (fun q h => Or.inl (Nat.le_trans hS.1 h)) (fun v49 H locs hp49 hz9 hk9 hS => ?_)
      have hE9 := Ext.of hz9 hk9 (fun q h => h)
      obtain rfl : v49 = Value.int (iI IX) := by rw [hIX]; exact hp49
      have hx9 := hx9.ext hE9
      have hR2 := hR2.ext hE9
      have hv3 := hv3.kp (Kp.ext hE9)
      obtain ⟨ir1, ir2⟩ := lix_rg (isOne (rdX g) p0) (gTs g) 0 (-1) (by decide) (by decide)
      rw [Nat.zero_add, ← hIX] at ir2
      rw [← hIX] at ir1
      have hG : askG g p0 = if IX = -1 then 0 else match (gTs g)[IX.toNat]? with | none => 0 | some t => ans (vof (rdX g) nCc) t (gTime g) := by rw [hIX]; rfl
      have hSS : askS g p0 = if askG g p0 = 1 ∨ askG g p0 = 2 then (match (gTs g)[IX.toNat]? with | none => ([], -1, gTime g, rdX g, gTs g, gUse g) | some t => ([], -1, gTime g, rdX g, (gTs g).set IX.toNat (useT t (gUse g + 1)), gUse g + 1)) else ([], -1, gTime g, rdX g, gTs g, gUse g) := by rw [hIX]; rfl
      have hL : (as.map some ++ List.replicate (25 - as.length) none).length = 25 := by rw [List.length_append, List.length_map, List.length_replicate]; omega
      have fin : ∀ (r : Int) (H : Heap), r = askA g p0 → RepT G H x 0 (askS g p0) → ((rdOk g p0 = true → (Value.int (iI r)) = .int (iI (askA g p0)) ∧ RepT G H x 0 (askS g p0)) ∧ (rdOk g p0 = false → (Value.int (iI r)) = .int (iI 0) ∧ RepT G H x 1 (rdS g))) := fun r H h1 h2 => ⟨fun _ => ⟨by rw [h1], h2⟩, fun h => (by rw [e9] at h; cases h)⟩
      have l90 : ∀ (fuel : Nat) , 0 < fuel → (askG g p0 = 1 ∨ askG g p0 = 2) → ∀ (H : Heap) (locs : List Loc) (ls : Array Slot) (k n : Nat), va_S (AT G H0) H0 H locs → Ob G H x 5 [.ref tp, .int (iI 0), .int (iI (-1)), .int (iI (gTime g)), .int (iI 0), .long (lN (gUse g)), .ref t, .ref th, .int (iI ↑as.length)] → (RT2 G H x tp th t as [] (gTape g ++ pad) (gTape g) (rdT (gTape g)).2 (gTs g)) → (k ≤ mc) → (n ≤ ms) → lv_has ls 6 [(0, .ref x), (4, .int (iI IX)), (5, .int (iI (askG g p0)))] → W p l e ⟨6, mc, ms, 141⟩ s m args below meth c H locs k n Q (F0 m 90 ls []) := by
        intro fuel
        induction fuel with
        | zero => intro  hf9; exact absurd hf9 (Nat.not_lt_zero _)
        | succ fuel ih_l90 =>
          intro  hf9 hgot H locs ls k n hS hx9 hR2 hr1 hr2 hl
          have hne : ¬ IX = -1 := fun h => by rw [hG, if_pos h] at hgot; omega
          obtain ⟨I, hI⟩ : ∃ I : Nat, IX = (I : Int) := ⟨IX.toNat, by omega⟩
          have hAth := hR2.2.1
          refine lv_aload_n hx hb dX4_ask_90 rfl (lv_at hl 0 rfl) ?_
          refine lv_aload_n hx hb dX4_ask_91 rfl (lv_at hl 0 rfl) ?_
          refine z_get cx (k0 := 7) hx9 rfl in_X4 (by decide) q1162 rfl rfl dX4_ask_92 ?_
          refine lv_iload hx hb dX4_ask_95 (lv_at hl 1 rfl) ?_
          refine z_aald cx (t0 := 4) hAth rfl rfl (I) (by omega) dX4_ask_97 (fun x97 hx97 => ?_)
          obtain ⟨a, ha, rfl⟩ := gas hx97 (by omega)
          obtain ⟨t1, ht1, tok, re, rv, rw9, hOg, hre, hrv, hrw⟩ := hR2.2.2.2.get ha
          have hxa : x ≠ a := hx9.cl.ne hOg.cl cx.kk rfl
          have haa := AT.t (hR0.2.2.2.ob a (List.mem_of_getElem? ha)).choose_spec (hm.2.2.2.2.2.2 a (List.mem_of_getElem? ha))
          have hx5 := hx9
          refine z_callVv cx (j := 1) (m_X4_use G l _ x a (lN (gUse g)) _ _ _ _ _ _ _ _ _ _ _ _ _ _ _ _ _ _ _ _ hOg hx9 hxa (mc := 0) (ms := 0)) (lw_V q1280 q1282 qs24 q57 q1283) (zrecv cx hx9 rfl) (by decide +kernel) rfl (rest := []) rfl hl (Nat.le_of_ble_eq_true rfl) (by decide) (by omega) dX4_ask_98 hS (fun q h => by rcases h with h | h | h; exact Or.inl (Nat.le_trans hS.1 h); exact h ▸ hax; exact h ▸ haa) (fun H locs hp98 hz9 hk9 hS => ?_)
          obtain ⟨hOg, hx9⟩ := hp98
          rw [lN_s] at hOg hx9
          have kp := kpa (x := x) (tp := tp) (th := th) (List.mem_of_getElem? ha) hk9
          have hR2 := hR2.upd ha hm.2.2.1 hx5 cx.kk hk9 (t := useT t1 (gUse g + 1)) ⟨useT_ok tok (by omega), re, rv, rw9, hOg, hre.kp kp, hrv.kp kp, hrw.kp kp⟩
          have hS9 : askS g p0 = ([], -1, gTime g, rdX g, (gTs g).set I (useT t1 (gUse g + 1)), gUse g + 1) := by rw [hSS, if_pos hgot, hI, Int.toNat_natCast, ht1]
          refine lv_goto (tgt := 119) hx hb dX4_ask_101 (by decide) ?_
          refine lv_iload hx hb dX4_ask_119 (lv_at hl 2 rfl) ?_
          exact z_iret cx hQ rfl rfl (fin _ _ (by rw [askA, if_pos hgot]) (by rw [hS9]; exact ⟨tp, th, t, as, gTape g ++ pad, gTape g, (rdT (gTape g)).2, hx9, hR2, ⟨hm1, rfl, hm.2.2⟩, ⟨chs_nil, Nat.zero_le _, by show -1 ≤ (-1 : Int) ∧ (-1 : Int) ≤ 300; decide, htm, by show ((gTs g).set I _).length ≤ 24; rw [List.length_set]; exact hn24, by show gUse g + 1 < 100000; omega⟩⟩)) hS (by omega) dX4_ask_121
      have l78 : ∀ (fuel : Nat) , 0 < fuel → ∀ (H : Heap) (locs : List Loc) (ls : Array Slot) (k n : Nat), va_S (AT G H0) H0 H locs → Ob G H x 5 [.ref tp, .int (iI 0), .int (iI (-1)), .int (iI (gTime g)), .int (iI 0), .long (lN (gUse g)), .ref t, .ref th, .int (iI ↑as.length)] → (RT2 G H x tp th t as [] (gTape g ++ pad) (gTape g) (rdT (gTape g)).2 (gTs g)) → (Orw G (fun _ => True) H r3 (vof (rdX g) nCc)) → (k + (1 + wC (vof (rdX g) nCc)) ≤ mc) → (n + (16 + wS (vof (rdX g) nCc)) ≤ ms) → lv_has ls 6 [(0, .ref x), (3, va_rf r3), (4, .int (iI IX)), (5, .int (iI (askG g p0)))] → W p l e ⟨6, mc, ms, 141⟩ s m args below meth c H locs k n Q (F0 m 78 ls []) := by
        intro fuel
        induction fuel with
        | zero => intro  hf9; exact absurd hf9 (Nat.not_lt_zero _)
        | succ fuel ih_l78 =>
          intro  hf9  H locs ls k n hS hx9 hR2 hv3 hr1 hr2 hl
          have hgr : -1 ≤ askG g p0 ∧ askG g p0 ≤ 3 := by
            rw [hG]
            split
            · decide
            · split
              · decide
              · unfold ans; split; decide; split; decide; split; split; decide; decide; split; decide; decide
          refine lv_iload hx hb dX4_ask_78 (lv_at hl 3 rfl) ?_
          refine lv_iconst (v := iI (1)) hx hb dX4_ask_80 rfl ?_
          refine z_icmp_eq cx (tgt := 90) dX4_ask_81 (by decide) (by omega) (fun c81 => ?_) (fun c81 => ?_)
          · exact l90 _  (Nat.lt_succ_self _) (Or.inl c81) _ _ _ _ _ hS hx9 hR2 (by omega) (by omega) (lv_sub hl [0, 2, 3] rfl)
          · refine lv_iload hx hb dX4_ask_84 (lv_at hl 3 rfl) ?_
            refine lv_iconst (v := iI (2)) hx hb dX4_ask_86 rfl ?_
            refine z_icmp_ne cx (tgt := 104) dX4_ask_87 (by decide) (by omega) (fun c87 => ?_) (fun c87 => ?_)
            · have hng : ¬ (askG g p0 = 1 ∨ askG g p0 = 2) := by omega
              rw [if_neg hng] at hSS
              have hRep : ∀ H : Heap, Ob G H x 5 (xT tp t th as.length (askS g p0) 0) → RT2 G H x tp th t as [] (gTape g ++ pad) (gTape g) (rdT (gTape g)).2 (gTs g) → RepT G H x 0 (askS g p0) := fun H h1 h2 => by
                rw [hSS] at h1 ⊢
                exact ⟨tp, th, t, as, gTape g ++ pad, gTape g, (rdT (gTape g)).2, h1, h2, ⟨hm1, rfl, hm.2.2⟩, ⟨chs_nil, Nat.zero_le _, by show -1 ≤ (-1 : Int) ∧ (-1 : Int) ≤ 300; decide, htm, hn24, hok.2.2.2.2.2⟩⟩
              refine z_aload_nq cx dX4_ask_104 rfl (lv_at hl 1 rfl) ?_
              refine lv_ldc2 hx hb cx.wn (cx.ts _ q1284) dX4_ask_105 ?_
              refine lv_ldc2 hx hb cx.wn (cx.ts _ q1285) dX4_ask_108 ?_
              refine z_callS cx (j := 3) (m_X4_has G l _ _ r3 (vof (rdX g) nCc) 8029474453356897837 109269930763620 nOic nm_oic ok_oic hv3 hvo2 (mc := 1 + wC (vof (rdX g) nCc)) (ms := 16 + wS (vof (rdX g) nCc)) (Nat.le_refl _) (Nat.le_refl _)) (lw_S q1255 q1256 q57 q1257) (by decide +kernel) rfl (rest := []) rfl hl (Nat.le_of_ble_eq_true rfl) (by decide) (by omega) dX4_ask_111 hS (fun q h => Or.inl (Nat.le_trans hS.1 h)) (fun v111 H locs hp111 hz9 hk9 hS => ?_)
              have hE9 := Ext.of hz9 hk9 (fun q h => h)
              have hx9 := hx9.ext hE9
              have hb111 := b2i_rg (hasW (vof (rdX g) nCc) nOic)
              subst hp111
              have hR2 := hR2.ext hE9
              refine z_if_eq cx (tgt := 119) dX4_ask_114 (by decide) (by omega) (fun c114 => ?_) (fun c114 => ?_)
              · have hnh : ¬ hasW (vof (rdX g) nCc) nOic = true := by rw [b2i_1.mp c114]; decide
                refine lv_iload hx hb dX4_ask_119 (lv_at hl 3 rfl) ?_
                exact z_iret cx hQ rfl rfl (fin _ _ (by rw [askA, if_neg hng, if_neg hnh]) (hRep _ (by rw [hSS]; exact hx9) hR2)) hS (by omega) dX4_ask_121
              · have hh : hasW (vof (rdX g) nCc) nOic = true := by cases h : hasW (vof (rdX g) nCc) nOic with | true => rfl | false => rw [h] at c114; exact absurd rfl c114
                refine lv_iconst (v := iI (4)) hx hb dX4_ask_117 rfl ?_
                exact z_iret cx hQ rfl rfl (fin _ _ (by rw [askA, if_neg hng, if_pos hh]) (hRep _ (by rw [hSS]; exact hx9) hR2)) hS (by omega) dX4_ask_118
            · exact l90 _  (Nat.lt_succ_self _) (Or.inr c87) _ _ _ _ _ hS hx9 hR2 (by omega) (by omega) (lv_sub hl [0, 2, 3] rfl)
      refine lv_istore (lv' := [(4, .int (iI IX)), (3, va_rf r3), (2, .ref t), (0, .ref x), (1, .int (iI p0))]) hx hb dX4_ask_52 hl (by decide) (by cases r3 <;> exact rfl) (fun ls hl => ?_)
      refine lv_iload hx hb dX4_ask_54 (lv_at hl 0 rfl) ?_
      refine lv_iconst (v := iI (-1)) hx hb dX4_ask_56 rfl ?_
      refine z_icmp_ne cx (tgt := 64) dX4_ask_57 (by decide) (by omega) (fun c57 => ?_) (fun c57 => ?_)
      · obtain ⟨I, hI⟩ : ∃ I : Nat, IX = (I : Int) := ⟨IX.toNat, by omega⟩
        have hAth := hR2.2.1
        refine lv_aload_n hx hb dX4_ask_64 rfl (lv_at hl 3 rfl) ?_
        refine lv_aload_n hx hb dX4_ask_65 rfl (lv_at hl 3 rfl) ?_
        refine z_get cx (k0 := 7) hx9 rfl in_X4 (by decide) q1162 rfl rfl dX4_ask_66 ?_
        refine lv_iload hx hb dX4_ask_69 (lv_at hl 0 rfl) ?_
        refine z_aald cx (t0 := 4) hAth rfl rfl (I) (by omega) dX4_ask_71 (fun x71 hx71 => ?_)
        obtain ⟨a, ha, rfl⟩ := gas hx71 (by omega)
        obtain ⟨t1, ht1, hM1⟩ := hR2.2.2.2.get ha
        have hgt : askG g p0 = ans (vof (rdX g) nCc) t1 (gTime g) := by rw [hG, if_neg c57, hI, Int.toNat_natCast, ht1]
        refine z_aload_nq cx dX4_ask_72 rfl (lv_at hl 1 rfl) ?_
        refine z_callV cx (j := 2) (m_X4_answer G l _ _ _ x a r3 (vof (rdX g) nCc) t1 (gTime g) _ _ _ _ _ _ _ _ hx9 hM1 hv3 hvo2 htm (mc := 4 * (1 + wC (vof (rdX g) nCc))) (ms := 4 * (16 + wS (vof (rdX g) nCc))) (Nat.le_refl _) (Nat.le_refl _)) (lw_V q1250 q1252 qs21 q57 q1253) (zrecv cx hx9 rfl) (by decide +kernel) rfl (rest := []) rfl hl (Nat.le_of_ble_eq_true rfl) (by decide) (by omega) dX4_ask_73 hS (fun q h => Or.inl (Nat.le_trans hS.1 h)) (fun v73 H locs hp73 hz9 hk9 hS => ?_)
        have hE9 := Ext.of hz9 hk9 (fun q h => h)
        obtain rfl : v73 = Value.int (iI (askG g p0)) := by rw [hgt]; exact hp73
        have hx9 := hx9.ext hE9
        have hAth := hAth.ext hE9
        have hR2 := hR2.ext hE9
        have hv3 := hv3.kp (Kp.ext hE9)
        refine lv_istore (lv' := [(5, .int (iI (askG g p0))), (4, .int (iI IX)), (3, va_rf r3), (2, .ref t), (0, .ref x), (1, .int (iI p0))]) hx hb dX4_ask_76 hl (by decide) rfl (fun ls hl => ?_)
        exact l78 _  (Nat.lt_succ_self _)  _ _ _ _ _ hS hx9 hR2 hv3 (by omega) (by omega) (lv_sub hl [4, 2, 1, 0] rfl)
      · have hg0 : askG g p0 = 0 := by rw [hG, if_pos c57]
        refine lv_iconst (v := iI (0)) hx hb dX4_ask_60 rfl ?_
        refine lv_goto (tgt := 76) hx hb dX4_ask_61 (by decide) ?_
        refine lv_istore (lv' := [(5, .int (iI 0)), (4, .int (iI IX)), (3, va_rf r3), (2, .ref t), (0, .ref x), (1, .int (iI p0))]) hx hb dX4_ask_76 hl (by decide) rfl (fun ls hl => ?_)
        rw [hg0] at l78
        exact l78 _  (Nat.lt_succ_self _)  _ _ _ _ _ hS hx9 hR2 hv3 (by omega) (by omega) (lv_sub hl [4, 2, 1, 0] rfl)
    · have hp9 := b2i_F c14
      have e9 : rdOk g p0 = false := decide_eq_false (fun h => hp9 h.2)
      refine lv_iconst (v := iI (1)) hx hb dX4_ask_17 rfl ?_
      refine lv_goto (tgt := 22) hx hb dX4_ask_18 (by decide) ?_
      refine z_put cx (k0 := 4) (vs' := [.ref tp, .int (iI 0), .int (iI ((rdT (gTape g)).1)), .int (iI (gTime g)), .int (iI 1), .long (lN (gUse g)), .ref rt, .ref th, .int (iI ↑as.length)]) hx9 hax hS rfl in_X4 tyX4_ok nmX4 (by decide) q1159 rfl rfl  rfl (Nat.le_of_ble_eq_true rfl) ⟨rfl, rfl⟩ dX4_ask_22 (fun H locs hx9 hz9 hq9 hS => ?_)
      have hR2 := hR2.kx hx7 cx.kk hq9
      refine lv_aload_n hx hb dX4_ask_25 rfl (lv_at hl 1 rfl) ?_
      refine z_get cx (k0 := 4) hx9 rfl in_X4 (by decide) q1159 rfl rfl dX4_ask_26 ?_
      refine z_if_eq cx (tgt := 34) dX4_ask_29 (by decide) (by omega) (fun c29 => (by exfalso; exact absurd c29 (by decide))) (fun c29 => ?_)
      refine lv_iconst (v := iI (0)) hx hb dX4_ask_32 rfl ?_
      exact z_iret cx hQ rfl rfl (bad e9 _ hx9 hR2) hS (by omega) dX4_ask_33
  · have e9 : rdOk g p0 = false := decide_eq_false (fun h => hf h.1)
    have hx7 := hx9
    refine lv_astore_nN (lv' := [(2, .null), (0, .ref x), (1, .int (iI p0))]) hx hb dX4_ask_4 rfl hl (by decide) rfl (fun ls hl => ?_)
    refine lv_aload_n hx hb dX4_ask_5 rfl (lv_at hl 1 rfl) ?_
    refine lv_aload_nN hx hb dX4_ask_6 rfl (lv_at hl 0 rfl) ?_
    refine lv_ifnullN (tgt := 17) hx hb dX4_ask_7 (by decide) ?_
    refine lv_iconst (v := iI (1)) hx hb dX4_ask_17 rfl ?_
    refine lv_goto (tgt := 22) hx hb dX4_ask_18 (by decide) ?_
    refine z_put cx (k0 := 4) (vs' := [.ref tp, .int (iI 0), .int (iI ((rdT (gTape g)).1)), .int (iI (gTime g)), .int (iI 1), .long (lN (gUse g)), .ref rt, .ref th, .int (iI ↑as.length)]) hx9 hax hS rfl in_X4 tyX4_ok nmX4 (by decide) q1159 rfl rfl  rfl (Nat.le_of_ble_eq_true rfl) ⟨rfl, rfl⟩ dX4_ask_22 (fun H locs hx9 hz9 hq9 hS => ?_)
    have hR2 := hR2.kx hx7 cx.kk hq9
    refine lv_aload_n hx hb dX4_ask_25 rfl (lv_at hl 1 rfl) ?_
    refine z_get cx (k0 := 4) hx9 rfl in_X4 (by decide) q1159 rfl rfl dX4_ask_26 ?_
    refine z_if_eq cx (tgt := 34) dX4_ask_29 (by decide) (by omega) (fun c29 => (by exfalso; exact absurd c29 (by decide))) (fun c29 => ?_)
    refine lv_iconst (v := iI (0)) hx hb dX4_ask_32 rfl ?_
    exact z_iret cx hQ rfl rfl (bad e9 _ hx9 hR2) hS (by omega) dX4_ask_33
