/-! ===== the model: again ===== -/
set_option maxHeartbeats 4000000 in
set_option maxRecDepth 100000 in
theorem m_X4_again (G : zE) (l : Launch) (H0 : Heap) (x : Nat) (p0 : Int) (thr : Int) (g : Sg) (hR : RepT G H0 x thr g) (hz : rg p0) (hu : gUse g < 99999) {mc ms : Nat} (hmc : agnC g ≤ mc) (hms : agnM g ≤ ms) : zR G l yX4_again (ws_ yX4_again cX4_again 7 (some FieldType.boolean)) 6 137 mc ms [.ref x, .int (iI p0)] H0 (fun r H1 => (rdOk g p0 = true → r = .int (iI (b2i (agnA g p0))) ∧ RepT G H1 x 0 (agnS g p0)) ∧ (rdOk g p0 = false → r = .int (iI 0) ∧ RepT G H1 x 1 (rdS g))) (AT G H0) := by
  refine zR.start (cc := cX4_again) (by decide) (Nat.le_of_ble_eq_true rfl) ?_
  intro p e s m args below meth c Q cx hQ hmn ls hl
  have hx := cx.1
  have hb := cx.2.1
  have hS : va_S (AT G H0) H0 H0 [] := va_S.rf
  have hl : lv_has ls 7 [(0, .ref x), (1, .int (iI p0))] := hl
  obtain ⟨tp, th, rt, as, pad, cs, lz, hx9, hR2, hm, hok⟩ := hR
  have hax := AT.x hx9 hm.2.2.2.1
  have hx8 := hx9
  have hR0 := hR2
  have hrq := hm.2.1
  have hl0 := hR2.2.2.2.1
  have hn24 := hok.2.2.2.2.1
  have htm := hok.2.2.2.1
  unfold agnC at hmc
  unfold agnM at hms
  have hm1 : ([] : List Int).length + (gTape g ++ pad).length = 300 := by rw [List.length_append]; simp; omega
  refine lv_aload_n hx hb dX4_again_0 rfl (lv_at hl 0 rfl) ?_
  refine z_callV cx (j := 0) (m_X4_read G l _ x tp (gTape g) pad _ _ _ _ _ _ _ hx9 hR2.1 hok.1 hok.2.1 (mc := 5) (ms := 605) (Nat.le_refl _) (Nat.le_refl _)) (lw_V q1196 q1198 qs19 q57 q1199) (zrecv cx hx9 rfl) (by decide +kernel) rfl (rest := []) rfl hl (Nat.le_of_ble_eq_true rfl) (by decide) (by omega) dX4_again_1 hS (fun q h => by rcases h with h | h; exact Or.inl (Nat.le_trans hS.1 h); exact h ▸ hax) (fun v1 H locs hp1 hz9 hk9 hS => ?_)
  obtain ⟨hx9, hrd⟩ := hp1
  have hR2 := hR2.kl hx8 cx.kk hk9
  have hR2 := hR2.tape (tape' := []) (pad' := gTape g ++ pad) (by rw [List.nil_append])
  have bad : rdOk g p0 = false → ∀ H : Heap, Ob G H x 5 (xT tp rt th as.length (rdS g) 1) → RT2 G H x tp th rt as [] (gTape g ++ pad) cs lz (gTs g) → ((rdOk g p0 = true → (Value.int (iI 0)) = .int (iI (b2i (agnA g p0))) ∧ RepT G H x 0 (agnS g p0)) ∧ (rdOk g p0 = false → (Value.int (iI 0)) = .int (iI 0) ∧ RepT G H x 1 (rdS g))) := fun e9 H h1 h2 => ⟨fun h => (by rw [e9] at h; cases h), fun _ => ⟨rfl, tp, th, rt, as, gTape g ++ pad, cs, lz, h1, h2, ⟨hm1, hm.2⟩, rdS_ok hok⟩⟩
  rcases hrd with ⟨hf, t, rfl, htx⟩ | ⟨hf, rfl⟩
  · refine lv_astore_n (lv' := [(2, .ref t), (0, .ref x), (1, .int (iI p0))]) hx hb dX4_again_4 rfl hl (by decide) rfl (fun ls hl => ?_)
    refine lv_aload_n hx hb dX4_again_5 rfl (lv_at hl 1 rfl) ?_
    refine lv_aload_n hx hb dX4_again_6 rfl (lv_at hl 0 rfl) ?_
    refine lv_ifnull hx hb dX4_again_7 ?_
    refine lv_iload_n hx hb dX4_again_10 rfl (lv_at hl 2 rfl) ?_
    refine z_callS cx (j := 1) (m_X4_isPath G l _ p0 hz (mc := 0) (ms := 0)) (lw_S q1209 q1210 q57 q1211) (by decide +kernel) rfl (rest := [.ref x]) rfl hl (Nat.le_of_ble_eq_true rfl) (by decide) (by omega) dX4_again_11 hS (fun q h => Or.inl (Nat.le_trans hS.1 h)) (fun v11 H locs hp11 hz9 hk9 hS => ?_)
    have hE9 := Ext.of hz9 hk9 (fun q h => h)
    have hx9 := hx9.ext hE9
    have hb11 := b2i_rg (decide (0 ≤ p0 ∧ p0 < 16))
    subst hp11
    have hR2 := hR2.ext hE9
    have htx := htx.ext hE9
    have hx7 := hx9
    refine z_if_ne cx (tgt := 21) dX4_again_14 (by decide) (by omega) (fun c14 => ?_) (fun c14 => ?_)
    · have hp9 := b2i_T c14
      have e9 : rdOk g p0 = true := decide_eq_true ⟨hf, hp9⟩
      refine lv_iconst (v := iI (0)) hx hb dX4_again_21 rfl ?_
      refine z_put cx (k0 := 4) (vs' := [.ref tp, .int (iI 0), .int (iI ((rdT (gTape g)).1)), .int (iI (gTime g)), .int (iI 0), .long (lN (gUse g)), .ref rt, .ref th, .int (iI ↑as.length)]) hx9 hax hS rfl in_X4 tyX4_ok nmX4 (by decide) q1159 rfl rfl  rfl (Nat.le_of_ble_eq_true rfl) ⟨rfl, rfl⟩ dX4_again_22 (fun H locs hx9 hz9 hq9 hS => ?_)
      have hR2 := hR2.kx hx7 cx.kk hq9
      have htx := htx.kp (Kp.put hq9 (fun q h => by intro z; have : H0.size ≤ q := h; have := hx8.lt; omega))
      refine lv_aload_n hx hb dX4_again_25 rfl (lv_at hl 1 rfl) ?_
      refine z_get cx (k0 := 4) hx9 rfl in_X4 (by decide) q1159 rfl rfl dX4_again_26 ?_
      refine z_if_eq cx (tgt := 34) dX4_again_29 (by decide) (by omega) (fun c29 => ?_) (fun c29 => (by exfalso; exact c29 rfl))
      rw [hf] at hx9
      obtain ⟨IX, hIX⟩ : ∃ IX, IX = lix (isOne (tln cs lz) p0) (gTs g) 0 (-1) := ⟨_, rfl⟩
      refine lv_aload_n hx hb dX4_again_34 rfl (lv_at hl 1 rfl) ?_
      refine lv_iload_n hx hb dX4_again_35 rfl (lv_at hl 2 rfl) ?_
      refine z_callV cx (j := 1) (m_X4_theOne G l _ _ x th rt as (25 - as.length) cs lz (gTs g) p0 _ _ _ _ _ _ hx9 hR2.2.1 hR2.2.2.1 hR2.2.2.2 hz (by omega) (mc := theC (gReq g) (gTs g)) (ms := theS (gReq g) (gTs g)) (by rw [hrq]; exact Nat.le_refl _) (by rw [hrq]; exact Nat.le_refl _)) (lw_V q1232 q1234 qs20 q57 q1235) (zrecv cx hx9 rfl) (by decide +kernel) rfl (rest := []) rfl hl (Nat.le_of_ble_eq_true rfl) (by decide) (by omega) dX4_again_36 hS (fun q h => Or.inl (Nat.le_trans hS.1 h)) (fun v36 H locs hp36 hz9 hk9 hS => ?_)
      have hE9 := Ext.of hz9 hk9 (fun q h => h)
      obtain rfl : v36 = Value.int (iI IX) := by rw [hIX]; exact hp36
      have hx9 := hx9.ext hE9
      have hR2 := hR2.ext hE9
      have htx := htx.ext hE9
      obtain ⟨ir1, ir2⟩ := lix_rg (isOne (tln cs lz) p0) (gTs g) 0 (-1) (by decide) (by decide)
      rw [Nat.zero_add, ← hIX] at ir2
      rw [← hIX] at ir1
      rw [hrq] at hIX
      have hL : (as.map some ++ List.replicate (25 - as.length) none).length = 25 := by rw [List.length_append, List.length_map, List.length_replicate]; omega
      have hno : agnA g p0 = false → ∀ H : Heap, Ob G H x 5 (xT tp rt th as.length (([], -1, gTime g, gReq g, gTs g, gUse g) : Sg) 0) → RT2 G H x tp th rt as [] (gTape g ++ pad) cs lz (gTs g) → ((rdOk g p0 = true → (Value.int (iI 0)) = .int (iI (b2i (agnA g p0))) ∧ RepT G H x 0 (agnS g p0)) ∧ (rdOk g p0 = false → (Value.int (iI 0)) = .int (iI 0) ∧ RepT G H x 1 (rdS g))) := fun hA9 H h1 h2 => ⟨fun _ => ⟨by rw [hA9]; rfl, by rw [agnS, hA9]; exact ⟨tp, th, rt, as, gTape g ++ pad, cs, lz, h1, h2, ⟨hm1, hm.2⟩, ⟨chs_nil, Nat.zero_le _, by show -1 ≤ (-1 : Int) ∧ (-1 : Int) ≤ 300; decide, htm, hn24, hok.2.2.2.2.2⟩⟩⟩, fun h => (by rw [e9] at h; cases h)⟩
      refine lv_istore_n (lv' := [(3, .int (iI IX)), (2, .ref t), (0, .ref x), (1, .int (iI p0))]) hx hb dX4_again_39 rfl hl (by decide) rfl (fun ls hl => ?_)
      refine lv_iload_n hx hb dX4_again_40 rfl (lv_at hl 0 rfl) ?_
      refine lv_iconst (v := iI (-1)) hx hb dX4_again_41 rfl ?_
      refine z_icmp_ne cx (tgt := 47) dX4_again_42 (by decide) (by omega) (fun c42 => ?_) (fun c42 => ?_)
      · have hnI : ¬ IX = -1 := by omega
        obtain ⟨I, hI⟩ : ∃ I : Nat, IX = (I : Int) := ⟨IX.toNat, by omega⟩
        have hAth := hR2.2.1
        refine lv_aload_n hx hb dX4_again_47 rfl (lv_at hl 2 rfl) ?_
        refine z_get cx (k0 := 7) hx9 rfl in_X4 (by decide) q1162 rfl rfl dX4_again_48 ?_
        refine lv_iload_n hx hb dX4_again_51 rfl (lv_at hl 0 rfl) ?_
        refine z_aald cx (t0 := 4) hAth rfl rfl (I) (by omega) dX4_again_52 (fun x52 hx52 => ?_)
        obtain ⟨a, ha, rfl⟩ := gas hx52 (by omega)
        obtain ⟨t1, ht1, tok, re, rv, rw9, hOg, hre, hrv, hrw⟩ := hR2.2.2.2.get ha
        have ham := List.mem_of_getElem? ha
        have hal : a < H0.size := by obtain ⟨vs, hv⟩ := hR0.2.2.2.ob a ham; exact hv.lt
        have hxa : x ≠ a := hx9.cl.ne hOg.cl cx.kk rfl
        have haa := AT.t (hR0.2.2.2.ob a ham).choose_spec (hm.2.2.2.2.2.2 a ham)
        have hAG : agnA g p0 = agnOk g t1 := by rw [agnA, agnI, ← hIX, if_neg hnI, hI, Int.toNat_natCast, ht1]
        have hAS : agnOk g t1 = true → agnS g p0 = ([], -1, gTime g, gReq g, rmi (gTs g) I ++ [useT (agnT g t1) (gUse g + 1)], gUse g + 1) := fun h => by rw [agnS, hAG, if_pos h, agnI, ← hIX, hI, Int.toNat_natCast, ht1]
        obtain ⟨AC, hAC⟩ : ∃ AC, AC = 1 + vC nCc none (rdX g) + 5 * (1 + wC (vof (rdX g) nCc)) + (3 + (vC nExp none (rdX g) + vC nDate none (rdX g) + vC nAge none (rdX g))) := ⟨_, rfl⟩
        obtain ⟨AM, hAM⟩ : ∃ AM, AM = 16 + vS nCc none (rdX g) + 5 * (16 + wS (vof (rdX g) nCc)) + (48 + (vS nExp none (rdX g) + vS nDate none (rdX g) + vS nAge none (rdX g))) := ⟨_, rfl⟩
        have l111 : ∀ (fuel : Nat) , 0 < fuel → (agnOk g t1 = true) → ∀ (H : Heap) (locs : List Loc) (ls : Array Slot) (k n : Nat), va_S (AT G H0) H0 H locs → Ob G H x 5 [.ref tp, .int (iI 0), .int (iI (-1)), .int (iI (gTime g)), .int (iI 0), .long (lN (gUse g)), .ref rt, .ref th, .int (iI ↑as.length)] → (RT2 G H x tp th rt as [] (gTape g ++ pad) cs lz ((gTs g).set I (ccT t1 (agnV t1 (vof (rdX g) nCc))))) → (Tx G (Pur H0) H t (gTape g) (rdT (gTape g)).2) → (k + (3 + (vC nExp none (rdX g) + vC nDate none (rdX g) + vC nAge none (rdX g))) ≤ mc) → (n + (48 + (vS nExp none (rdX g) + vS nDate none (rdX g) + vS nAge none (rdX g))) ≤ ms) → lv_has ls 7 [(0, .ref x), (2, .ref t), (3, .int (iI IX)), (4, .ref a)] → W p l e ⟨6, mc, ms, 137⟩ s m args below meth c H locs k n Q (F0 m 111 ls []) := by
          intro fuel
          induction fuel with
          | zero => intro  hf9; exact absurd hf9 (Nat.not_lt_zero _)
          | succ fuel ih_l111 =>
            intro  hf9 hgot H locs ls k n hS hx9 hR2 htx hr1 hr2 hl
            have hIl : I < (gTs g).length := (List.getElem?_eq_some_iff.mp ht1).1
            obtain ⟨tok2, re, rv, rw9, hOg, hre, hrv, hrw⟩ := hR2.2.2.2.2 I a _ ha (List.getElem?_set_self hIl)
            have hx5 := hx9
            refine lv_aload_n hx hb dX4_again_111 rfl (lv_at hl 0 rfl) ?_
            refine lv_aload hx hb dX4_again_112 (lv_at hl 3 rfl) ?_
            refine lv_aload_n hx hb dX4_again_114 rfl (lv_at hl 1 rfl) ?_
            refine z_callVv cx (j := 2) (m_X4_setTimes G l _ (Pur H0) x a t (gTape g) (rdT (gTape g)).2 (wrd (agnV t1 (vof (rdX g) nCc)) nSm) (wrd (agnV t1 (vof (rdX g) nCc)) nMa) (gTime g) _ _ _ _ _ _ _ _ _ _ _ _ _ _ _ _ _ _ hOg hx9 (Nat.not_le.mpr hal) htx hxa ⟨by have := wrd_rg (agnV t1 (vof (rdX g) nCc)) nSm; omega, by have := wrd_rg (agnV t1 (vof (rdX g) nCc)) nMa; omega⟩ (mc := 3 + (vC nExp none (rdX g) + vC nDate none (rdX g) + vC nAge none (rdX g))) (ms := 48 + (vS nExp none (rdX g) + vS nDate none (rdX g) + vS nAge none (rdX g))) (Nat.le_refl _) (Nat.le_refl _)) (lw_V q1348 q1350 qs26 q57 q1351) (zrecv cx hx9 rfl) (by decide +kernel) rfl (rest := []) rfl hl (Nat.le_of_ble_eq_true rfl) (by decide) (by omega) dX4_again_115 hS (fun q h => by rcases h with h | h; exact Or.inl (Nat.le_trans hS.1 h); exact h ▸ haa) (fun H locs hp115 hz9 hk9 hS => ?_)
            have hOg := hp115
            have kq := kq_w (x := x) hk9
            have hx9 := hx9.kept (hk9 x hx9.lt (by rintro (z | z); exact absurd hx9.lt (Nat.not_lt.mpr z); exact hxa z))
            have kp := kpa (x := x) (tp := tp) (th := th) ham kq
            have hMa : MTh G (PT x tp th as) H a (agnT g t1) := ⟨by rw [agnT_eq]; exact tmT_ok tok2 _ htm, re, rv, rw9, hOg, hre.kp kp, hrv.kp kp, hrw.kp kp⟩
            have hR2 := hR2.upd ha hm.2.2.1 hx5 cx.kk kq hMa
            rw [List.set_set] at hR2
            refine lv_aload_n hx hb dX4_again_118 rfl (lv_at hl 0 rfl) ?_
            refine lv_iload_n hx hb dX4_again_119 rfl (lv_at hl 2 rfl) ?_
            have hath := AT.a hR0.2.1 hm.2.2.2.2.2.1
            have hx6 := hx9
            have hlI : I < as.length := (List.getElem?_eq_some_iff.mp ha).1
            have hlr := rmi_len hlI
            have hth8 := hR2.2.1
            have hax2 : a ≠ x := Ne.symm hxa
            have hat : a ≠ th := hOg.cl.ne hth8.cl cx.kk rfl
            have hatp : a ≠ tp := hOg.cl.ne hR2.1.cl cx.kk rfl
            rw [hI]
            refine z_callVv cx (j := 1) (m_X4_takeOut G l _ x th I as (25 - as.length) _ _ _ _ _ _ _ hx9 hR2.2.1 hR2.2.2.2.ob hlI (by omega) (mc := 0) (ms := 0)) (lw_V q1362 q1364 qs28 q57 q1365) (zrecv cx hx9 rfl) (by decide +kernel) rfl (rest := []) rfl hl (Nat.le_of_ble_eq_true rfl) (by decide) (by omega) dX4_again_120 hS (fun q h => by rcases h with h | h | h; exact Or.inl (Nat.le_trans hS.1 h); exact h ▸ hax; exact h ▸ hath) (fun H locs hp120 hz9 hk9 hS => ?_)
            obtain ⟨hx9, hth9⟩ := hp120
            have hR3 := (RT3.of hR2).rm hx6 cx.kk hk9 (by rw [hlr, show 25 - (as.length - 1) = 25 - as.length + 1 by omega]; exact hth9)
            rw [rmi_set] at hR3
            obtain ⟨tk, re2, rv2, rw2, hOa, m1, m2, m3⟩ := hMa.kp (PT.kxt hk9) (hk9 a hOg.lt (by rintro (z | z | z); exact absurd hOg.lt (Nat.not_lt.mpr z); exact hax2 z; exact hat z))
            rw [← hlr] at hx9
            refine lv_aload_n hx hb dX4_again_123 rfl (lv_at hl 0 rfl) ?_
            refine lv_aload hx hb dX4_again_124 (lv_at hl 3 rfl) ?_
            have hx6 := hx9
            have hr24 : 25 - (rmi as I).length = (24 - (rmi as I).length) + 1 := by omega
            have hth7 := hR3.2.1
            rw [hr24] at hth7
            refine z_callVv cx (j := 1) (m_X4_putLast G l _ x th a (rmi as I) (24 - (rmi as I).length) (lN (gUse g)) _ _ _ _ _ _ _ _ _ _ _ _ _ _ _ _ _ _ hx9 hth7 hOa (by omega) (mc := 0) (ms := 0)) (lw_V q1371 q1373 qs29 q57 q1374) (zrecv cx hx9 rfl) (by decide +kernel) rfl (rest := []) rfl hl (Nat.le_of_ble_eq_true rfl) (by decide) (by omega) dX4_again_126 hS (fun q h => by rcases h with h | h | h | h; exact Or.inl (Nat.le_trans hS.1 h); exact h ▸ hax; exact h ▸ hath; exact h ▸ haa) (fun H locs hp126 hz9 hk9 hS => ?_)
            obtain ⟨hx9, hth9, hOa⟩ := hp126
            rw [lN_s] at hx9 hOa
            have kp := PT.k3 (x := x) (tp := tp) (th := th) ham hk9
            have hR4 := hR3.put hx6 cx.kk ham (rmi_not hm.2.2.1 ha) hatp hk9 (by rw [List.length_append, List.length_singleton, show 25 - ((rmi as I).length + 1) = 24 - (rmi as I).length by omega]; exact hth9) (t := useT (agnT g t1) (gUse g + 1)) ⟨useT_ok tk (by omega), re2, rv2, rw2, hOa, m1.kp kp, m2.kp kp, m3.kp kp⟩
            have hsub : ∀ q ∈ rmi as I ++ [a], q ∈ as := fun q hq => by
              rcases List.mem_append.mp hq with z | z
              · exact rmi_mem z
              · rw [List.mem_singleton.mp z]; exact ham
            have hR5 := hR4.to hsub
            have hS9 := hAS hgot
            have hx9 : Ob G H x 5 (xT tp rt th (rmi as I ++ [a]).length (([], -1, gTime g, gReq g, rmi (gTs g) I ++ [useT (agnT g t1) (gUse g + 1)], gUse g + 1) : Sg) 0) := by rw [List.length_append, List.length_singleton]; exact hx9
            refine lv_iconst (v := iI (1)) hx hb dX4_again_129 rfl ?_
            exact z_iret cx hQ rfl rfl (⟨fun _ => ⟨by rw [hAG, hgot]; rfl, by rw [hS9]; exact ⟨tp, th, rt, rmi as I ++ [a], gTape g ++ pad, cs, lz, hx9, hR5, ⟨hm1, hrq, nd_snoc (rmi_nd hm.2.2.1 I) (rmi_not hm.2.2.1 ha), hm.2.2.2.1, hm.2.2.2.2.1, hm.2.2.2.2.2.1, fun q hq => hm.2.2.2.2.2.2 q (hsub q hq)⟩, ⟨chs_nil, Nat.zero_le _, by show -1 ≤ (-1 : Int) ∧ (-1 : Int) ≤ 300; decide, htm, by show (rmi (gTs g) I ++ [useT (agnT g t1) (gUse g + 1)]).length ≤ 24; rw [List.length_append, List.length_singleton, rmi_len hIl]; omega, by show gUse g + 1 < 100000; omega⟩⟩⟩, fun h => (by rw [e9] at h; cases h)⟩) hS (by omega) dX4_again_130
        have l89 : ∀ (fuel : Nat) , 0 < fuel → (agnOk g t1 = true) → ∀ (H : Heap) (locs : List Loc) (ls : Array Slot) (k n : Nat), va_S (AT G H0) H0 H locs → Ob G H x 5 [.ref tp, .int (iI 0), .int (iI (-1)), .int (iI (gTime g)), .int (iI 0), .long (lN (gUse g)), .ref rt, .ref th, .int (iI ↑as.length)] → (RT2 G H x tp th rt as [] (gTape g ++ pad) cs lz (gTs g)) → (Tx G (Pur H0) H t (gTape g) (rdT (gTape g)).2) → (k + AC ≤ mc) → (n + AM ≤ ms) → lv_has ls 7 [(0, .ref x), (2, .ref t), (3, .int (iI IX)), (4, .ref a)] → W p l e ⟨6, mc, ms, 137⟩ s m args below meth c H locs k n Q (F0 m 89 ls []) := by
          intro fuel
          induction fuel with
          | zero => intro  hf9; exact absurd hf9 (Nat.not_lt_zero _)
          | succ fuel ih_l89 =>
            intro  hf9 hgot H locs ls k n hS hx9 hR2 htx hr1 hr2 hl
            have hIl : I < (gTs g).length := (List.getElem?_eq_some_iff.mp ht1).1
            refine lv_aload_n hx hb dX4_again_89 rfl (lv_at hl 1 rfl) ?_
            refine z_callS cx (j := 0) (m_X4_cacheControl G l _ (mc := 1) (ms := 16) (Nat.le_refl _) (Nat.le_refl _)) (lw_S q1212 q1213 q57 q1214) (by decide +kernel) rfl (rest := [.ref t]) rfl hl (Nat.le_of_ble_eq_true rfl) (by decide) (by omega) dX4_again_90 hS (fun q h => Or.inl (Nat.le_trans hS.1 h)) (fun v90 H locs hp90 hz9 hk9 hS => ?_)
            have hE9 := Ext.of hz9 hk9 (fun q h => h)
            obtain ⟨b, rfl, -, Ab⟩ := hp90
            have hx9 := hx9.ext hE9
            have hR2 := hR2.ext hE9
            have htx := htx.ext hE9
            have hvo : ochs (vof (rdX g) nCc) ∧ olen (vof (rdX g) nCc) 30100 := by
              obtain ⟨-, _, _, _, _, _, _, _, -, -, -, -, -, -, hl9, hch, hcl, -⟩ := htx
              exact vof_ok hch hcl hl9.2.2.2
            have hvo2 : ochs (vof (rdX g) nCc) ∧ olen (vof (rdX g) nCc) 40000 := ⟨hvo.1, fun y hy => Nat.le_trans (hvo.2 y hy) (by omega)⟩
            have hs0 := hS.1
            refine z_callS cx (j := 2) (m_X4_valueOf G l _ _ t b (gTape g) (rdT (gTape g)).2 nCc htx Ab ok_cc (mc := vC nCc none (rdX g)) (ms := vS nCc none (rdX g)) (Nat.le_refl _) (Nat.le_refl _)) (lw_S q1220 q1221 q57 q1222) (by decide +kernel) rfl (rest := []) rfl hl (Nat.le_of_ble_eq_true rfl) (by decide) (by omega) dX4_again_93 hS (fun q h => Or.inl (Nat.le_trans hS.1 h)) (fun v93 H locs hp93 hz9 hk9 hS => ?_)
            have hE9 := Ext.of hz9 hk9 (fun q h => h)
            obtain ⟨r6, rfl, hv6⟩ := hp93
            have hx9 := hx9.ext hE9
            have hR2 := hR2.ext hE9
            have htx := htx.ext hE9
            have hv6 : Orw G (fun q => q ≠ a) H r6 (vof (rdX g) nCc) := hv6.kp (P' := fun q => q ≠ a) (Kp.weak (fun q _ h => by intro z; have h : _ ≤ q := h; omega))
            obtain ⟨tok, re, rv, rw9, hOg, hre, hrv, hrw⟩ := hR2.2.2.2.2 I a _ ha ht1
            have hx5 := hx9
            refine z_astoreq cx (lv' := [(6, va_rf r6), (0, .ref x), (2, .ref t), (3, .int (iI IX)), (4, .ref a)]) dX4_again_96 hl (by decide) rfl (fun ls hl => ?_)
            rcases r6 with _ | r6
            · have e5 : vof (rdX g) nCc = none := by cases h : vof (rdX g) nCc with | none => rfl | some y => rw [h] at hv6; exact hv6.elim
              refine lv_aloadN hx hb dX4_again_98 (lv_at hl 0 rfl) ?_
              refine lv_ifnullN (tgt := 111) hx hb dX4_again_100 (by decide) ?_
              have hR2 := hR2.upd ha hm.2.2.1 hx5 cx.kk (fun q _ _ => rfl) (t := ccT t1 (agnV t1 (vof (rdX g) nCc))) (by rw [agnV, if_pos e5]; exact ⟨tok, re, rv, rw9, hOg, hre, hrv, hrw⟩)
              exact l111 _  (Nat.lt_succ_self _) hgot _ _ _ _ _ hS hx9 hR2 htx (by omega) (by omega) (lv_sub hl [1, 2, 3, 4] rfl)
            · have e5 : ¬ vof (rdX g) nCc = none := fun h => by rw [h] at hv6; exact hv6.elim
              have hva : agnV t1 (vof (rdX g) nCc) = vof (rdX g) nCc := by rw [agnV, if_neg e5]
              refine lv_aload hx hb dX4_again_98 (lv_at hl 0 rfl) ?_
              refine lv_ifnull hx hb dX4_again_100 ?_
              refine lv_aload_n hx hb dX4_again_103 rfl (lv_at hl 1 rfl) ?_
              refine lv_aload hx hb dX4_again_104 (lv_at hl 4 rfl) ?_
              refine lv_aload hx hb dX4_again_106 (lv_at hl 0 rfl) ?_
              refine z_callVv cx (j := 2) (m_X4_setWords G l _ _ x a (some r6) (vof (rdX g) nCc) _ _ _ _ _ _ _ _ _ _ _ _ hOg (fun z => z rfl) hv6 hvo2 (mc := 5 * (1 + wC (vof (rdX g) nCc))) (ms := 5 * (16 + wS (vof (rdX g) nCc))) (Nat.le_refl _) (Nat.le_refl _)) (lw_V q1339 q1341 qs25 q57 q1342) (zrecv cx hx9 rfl) (by decide +kernel) rfl (rest := []) rfl hl (Nat.le_of_ble_eq_true rfl) (by decide) (by omega) dX4_again_108 hS (fun q h => by rcases h with h | h; exact Or.inl (Nat.le_trans hS.1 h); exact h ▸ haa) (fun H locs hp108 hz9 hk9 hS => ?_)
              have hOg := hp108
              have kq := kq_w (x := x) hk9
              have hx9 := hx9.kept (hk9 x hx9.lt (by rintro (z | z); exact absurd hx9.lt (Nat.not_lt.mpr z); exact hxa z))
              have kp := kpa (x := x) (tp := tp) (th := th) ham kq
              have htx := htx.kp (P' := Pur H0) (fun q hq hp => ⟨hp, hk9 q hq (by rintro (z | z); exact absurd hq (Nat.not_lt.mpr z); have hp : H0.size ≤ q := hp; omega)⟩)
              have hR2 := hR2.upd ha hm.2.2.1 hx5 cx.kk kq (t := ccT t1 (agnV t1 (vof (rdX g) nCc))) (by rw [hva]; exact ⟨ccT_ok tok hvo2, re, rv, rw9, hOg, hre.kp kp, hrv.kp kp, hrw.kp kp⟩)
              exact l111 _  (Nat.lt_succ_self _) hgot _ _ _ _ _ hS hx9 hR2 htx (by omega) (by omega) (lv_sub hl [1, 2, 3, 4] rfl)
        refine lv_astore (lv' := [(4, .ref a), (3, .int (iI IX)), (2, .ref t), (0, .ref x), (1, .int (iI p0))]) hx hb dX4_again_53 hl (by decide) rfl (fun ls hl => ?_)
        refine lv_aload_n hx hb dX4_again_55 rfl (lv_at hl 2 rfl) ?_
        refine z_callS cx (j := 1) (m_X4_etagOf G l _ _ t (gTape g) (rdT (gTape g)).2 htx (mc := 1 + vC nEtag none (rdX g)) (ms := 16 + vS nEtag none (rdX g)) (Nat.le_refl _) (Nat.le_refl _)) (lw_S q1335 q1336 q57 q1337) (by decide +kernel) rfl (rest := []) rfl hl (Nat.le_of_ble_eq_true rfl) (by decide) (by omega) dX4_again_56 hS (fun q h => Or.inl (Nat.le_trans hS.1 h)) (fun v56 H locs hp56 hz9 hk9 hS => ?_)
        have hE9 := Ext.of hz9 hk9 (fun q h => h)
        obtain ⟨r5, rfl, het⟩ := hp56
        have hx9 := hx9.ext hE9
        have hAth := hAth.ext hE9
        have hR2 := hR2.ext hE9
        have htx := htx.ext hE9
        have het : Orw G (fun _ => True) H r5 (etg (rdX g)) := het.kp (Kp.weak (fun _ _ _ => trivial))
        obtain ⟨tok, re, rv, rw9, hOg, hre, hrv, hrw⟩ := hR2.2.2.2.2 I a _ ha ht1
        refine z_astoreq cx (lv' := [(5, va_rf r5), (4, .ref a), (3, .int (iI IX)), (2, .ref t), (0, .ref x), (1, .int (iI p0))]) dX4_again_59 hl (by decide) rfl (fun ls hl => ?_)
        rcases r5 with _ | r5
        · have e5 : etg (rdX g) = none := by cases h : etg (rdX g) with | none => rfl | some y => rw [h] at het; exact het.elim
          refine lv_aloadN hx hb dX4_again_61 (lv_at hl 0 rfl) ?_
          refine lv_ifnullN (tgt := 89) hx hb dX4_again_63 (by decide) ?_
          exact l89 _  (Nat.lt_succ_self _) (decide_eq_true (Or.inl e5)) _ _ _ _ _ hS hx9 hR2 htx (by omega) (by omega) (lv_sub hl [4, 3, 2, 1] rfl)
        · obtain ⟨y, hy⟩ : ∃ y, etg (rdX g) = some y := by cases h : etg (rdX g) with | none => rw [h] at het; exact het.elim | some y => exact ⟨y, rfl⟩
          rw [hy] at het
          have hAy := het.2
          have hvo : chs y ∧ y.length ≤ 100000 := by
            obtain ⟨-, _, _, _, _, _, _, _, -, -, -, -, -, -, hl9, hch, hcl, -⟩ := htx
            have h1 := vof_ok (nm := nEtag) hch hcl hl9.2.2.2
            have h2 : vof (rdX g) nEtag = some y := (etg_of hy).1
            exact ⟨h1.1 y h2, Nat.le_trans (h1.2 y h2) (by omega)⟩
          by_cases hne : tEtag t1 = []
          · rw [oet, if_pos hne] at hre
            have hr9 := hre.n
            subst hr9
            have hA9 : agnA g p0 = false := by rw [hAG]; exact decide_eq_false (by rw [hy, oet, if_pos hne]; rintro (z | z) <;> cases z)
            refine lv_aload hx hb dX4_again_61 (lv_at hl 0 rfl) ?_
            refine lv_ifnull hx hb dX4_again_63 ?_
            refine lv_aload hx hb dX4_again_66 (lv_at hl 1 rfl) ?_
            refine z_get cx (k0 := 8) hOg rfl in_X8 (by decide) q1305 rfl rfl dX4_again_68 ?_
            refine lv_ifnullN (tgt := 87) hx hb dX4_again_71 (by decide) ?_
            refine lv_iconst (v := iI (0)) hx hb dX4_again_87 rfl ?_
            exact z_iret cx hQ rfl rfl (hno hA9 _ hx9 hR2) hS (by omega) dX4_again_88
          · rw [oet, if_neg hne] at hre
            obtain ⟨ea, rfl, -, hAe⟩ := hre.s
            refine lv_aload hx hb dX4_again_61 (lv_at hl 0 rfl) ?_
            refine lv_ifnull hx hb dX4_again_63 ?_
            refine lv_aload hx hb dX4_again_66 (lv_at hl 1 rfl) ?_
            refine z_get cx (k0 := 8) hOg rfl in_X8 (by decide) q1305 rfl rfl dX4_again_68 ?_
            refine lv_ifnull hx hb dX4_again_71 ?_
            refine lv_aload hx hb dX4_again_74 (lv_at hl 0 rfl) ?_
            refine lv_aload hx hb dX4_again_76 (lv_at hl 1 rfl) ?_
            refine z_get cx (k0 := 8) hOg rfl in_X8 (by decide) q1305 rfl rfl dX4_again_78 ?_
            refine z_callS cx (j := 2) (m_X4_same G l _ r5 ea y (tEtag t1) hAy hAe hvo.1 tok.1 ⟨hvo.2, Nat.le_trans tok.2.1 (by omega)⟩ (mc := 0) (ms := 0)) (lw_S q1247 q1248 q57 q1249) (by decide +kernel) rfl (rest := []) rfl hl (Nat.le_of_ble_eq_true rfl) (by decide) (by omega) dX4_again_81 hS (fun q h => Or.inl (Nat.le_trans hS.1 h)) (fun v81 H locs hp81 hz9 hk9 hS => ?_)
            have hE9 := Ext.of hz9 hk9 (fun q h => h)
            have hx9 := hx9.ext hE9
            have hAth := hAth.ext hE9
            have hOg := hOg.ext hE9
            have hb81 := b2i_rg (decide (y = tEtag t1))
            subst hp81
            have hR2 := hR2.ext hE9
            have htx := htx.ext hE9
            refine z_if_ne cx (tgt := 89) dX4_again_84 (by decide) (by omega) (fun c84 => ?_) (fun c84 => ?_)
            · have h9 := b2i_T c84
              exact l89 _  (Nat.lt_succ_self _) (decide_eq_true (Or.inr (by rw [hy, oet, if_neg hne, h9]))) _ _ _ _ _ hS hx9 hR2 htx (by omega) (by omega) (lv_sub hl [4, 3, 2, 1] rfl)
            · have h9 := b2i_F c84
              have hA9 : agnA g p0 = false := by rw [hAG]; exact decide_eq_false (by rw [hy, oet, if_neg hne]; rintro (z | z); cases z; exact h9 (Option.some.inj z))
              refine lv_iconst (v := iI (0)) hx hb dX4_again_87 rfl ?_
              exact z_iret cx hQ rfl rfl (hno hA9 _ hx9 hR2) hS (by omega) dX4_again_88
      · have hA9 : agnA g p0 = false := by rw [agnA, agnI, ← hIX, if_pos (by omega)]
        refine lv_iconst (v := iI (0)) hx hb dX4_again_45 rfl ?_
        exact z_iret cx hQ rfl rfl (hno hA9 _ hx9 hR2) hS (by omega) dX4_again_46
    · have hp9 := b2i_F c14
      have e9 : rdOk g p0 = false := decide_eq_false (fun h => hp9 h.2)
      refine lv_iconst (v := iI (1)) hx hb dX4_again_17 rfl ?_
      refine lv_goto (tgt := 22) hx hb dX4_again_18 (by decide) ?_
      refine z_put cx (k0 := 4) (vs' := [.ref tp, .int (iI 0), .int (iI ((rdT (gTape g)).1)), .int (iI (gTime g)), .int (iI 1), .long (lN (gUse g)), .ref rt, .ref th, .int (iI ↑as.length)]) hx9 hax hS rfl in_X4 tyX4_ok nmX4 (by decide) q1159 rfl rfl  rfl (Nat.le_of_ble_eq_true rfl) ⟨rfl, rfl⟩ dX4_again_22 (fun H locs hx9 hz9 hq9 hS => ?_)
      have hR2 := hR2.kx hx7 cx.kk hq9
      refine lv_aload_n hx hb dX4_again_25 rfl (lv_at hl 1 rfl) ?_
      refine z_get cx (k0 := 4) hx9 rfl in_X4 (by decide) q1159 rfl rfl dX4_again_26 ?_
      refine z_if_eq cx (tgt := 34) dX4_again_29 (by decide) (by omega) (fun c29 => (by exfalso; exact absurd c29 (by decide))) (fun c29 => ?_)
      refine lv_iconst (v := iI (0)) hx hb dX4_again_32 rfl ?_
      exact z_iret cx hQ rfl rfl (bad e9 _ hx9 hR2) hS (by omega) dX4_again_33
  · have e9 : rdOk g p0 = false := decide_eq_false (fun h => hf h.1)
    have hx7 := hx9
    refine lv_astore_nN (lv' := [(2, .null), (0, .ref x), (1, .int (iI p0))]) hx hb dX4_again_4 rfl hl (by decide) rfl (fun ls hl => ?_)
    refine lv_aload_n hx hb dX4_again_5 rfl (lv_at hl 1 rfl) ?_
    refine lv_aload_nN hx hb dX4_again_6 rfl (lv_at hl 0 rfl) ?_
    refine lv_ifnullN (tgt := 17) hx hb dX4_again_7 (by decide) ?_
    refine lv_iconst (v := iI (1)) hx hb dX4_again_17 rfl ?_
    refine lv_goto (tgt := 22) hx hb dX4_again_18 (by decide) ?_
    refine z_put cx (k0 := 4) (vs' := [.ref tp, .int (iI 0), .int (iI ((rdT (gTape g)).1)), .int (iI (gTime g)), .int (iI 1), .long (lN (gUse g)), .ref rt, .ref th, .int (iI ↑as.length)]) hx9 hax hS rfl in_X4 tyX4_ok nmX4 (by decide) q1159 rfl rfl  rfl (Nat.le_of_ble_eq_true rfl) ⟨rfl, rfl⟩ dX4_again_22 (fun H locs hx9 hz9 hq9 hS => ?_)
    have hR2 := hR2.kx hx7 cx.kk hq9
    refine lv_aload_n hx hb dX4_again_25 rfl (lv_at hl 1 rfl) ?_
    refine z_get cx (k0 := 4) hx9 rfl in_X4 (by decide) q1159 rfl rfl dX4_again_26 ?_
    refine z_if_eq cx (tgt := 34) dX4_again_29 (by decide) (by omega) (fun c29 => (by exfalso; exact absurd c29 (by decide))) (fun c29 => ?_)
    refine lv_iconst (v := iI (0)) hx hb dX4_again_32 rfl ?_
    exact z_iret cx hQ rfl rfl (bad e9 _ hx9 hR2) hS (by omega) dX4_again_33
