/-! ===== the model: keep ===== -/
set_option maxHeartbeats 4000000 in
set_option maxRecDepth 100000 in
theorem m_X4_keep (G : zE) (l : Launch) (H0 : Heap) (x : Nat) (p0 : Int) (thr : Int) (g : Sg) (hR : RepT G H0 x thr g) (hz : rg p0) (hu : gUse g < 99999) {mc ms : Nat} (hmc : keepC g p0 ≤ mc) (hms : keepM g p0 ≤ ms) : zR G l yX4_keep (ws_ yX4_keep cX4_keep 8 (some FieldType.boolean)) 6 137 mc ms [.ref x, .int (iI p0)] H0 (fun r H1 => (rdOk g p0 = true → r = .int (iI (b2i (kMay g p0))) ∧ RepT G H1 x 0 (keepS g p0)) ∧ (rdOk g p0 = false → r = .int (iI 0) ∧ RepT G H1 x 1 (rdS g))) (AT G H0) := by
  refine zR.start (cc := cX4_keep) (by decide) (Nat.le_of_ble_eq_true rfl) ?_
  intro p e s m args below meth c Q cx hQ hmn ls hl
  have hx := cx.1
  have hb := cx.2.1
  have hS : va_S (AT G H0) H0 H0 [] := va_S.rf
  have hl : lv_has ls 8 [(0, .ref x), (1, .int (iI p0))] := hl
  obtain ⟨tp, th, rt, as, pad, cs, lz, hx9, hR2, hm, hok⟩ := hR
  have hax := AT.x hx9 hm.2.2.2.1
  have hath := AT.a hR2.2.1 hm.2.2.2.2.2.1
  have hx8 := hx9
  have hR0 := hR2
  have hrq := hm.2.1
  have hl0 := hR2.2.2.2.1
  have hn24 := hok.2.2.2.2.1
  have htm := hok.2.2.2.1
  unfold keepC at hmc
  unfold keepM at hms
  have hm1 : ([] : List Int).length + (gTape g ++ pad).length = 300 := by rw [List.length_append]; simp; omega
  refine lv_aload_n hx hb dX4_keep_0 rfl (lv_at hl 0 rfl) ?_
  refine z_callV cx (j := 0) (m_X4_read G l _ x tp (gTape g) pad _ _ _ _ _ _ _ hx9 hR2.1 hok.1 hok.2.1 (mc := 5) (ms := 605) (Nat.le_refl _) (Nat.le_refl _)) (lw_V q1196 q1198 qs19 q57 q1199) (zrecv cx hx9 rfl) (by decide +kernel) rfl (rest := []) rfl hl (Nat.le_of_ble_eq_true rfl) (by decide) (by omega) dX4_keep_1 hS (fun q h => by rcases h with h | h; exact Or.inl (Nat.le_trans hS.1 h); exact h ▸ hax) (fun v1 H locs hp1 hz9 hk9 hS => ?_)
  obtain ⟨hx9, hrd⟩ := hp1
  have hR2 := hR2.kl hx8 cx.kk hk9
  have hR2 := hR2.tape (tape' := []) (pad' := gTape g ++ pad) (by rw [List.nil_append])
  have bad : rdOk g p0 = false → ∀ H : Heap, Ob G H x 5 (xT tp rt th as.length (rdS g) 1) → RT2 G H x tp th rt as [] (gTape g ++ pad) cs lz (gTs g) → ((rdOk g p0 = true → (Value.int (iI 0)) = .int (iI (b2i (kMay g p0))) ∧ RepT G H x 0 (keepS g p0)) ∧ (rdOk g p0 = false → (Value.int (iI 0)) = .int (iI 0) ∧ RepT G H x 1 (rdS g))) := fun e9 H h1 h2 => ⟨fun h => (by rw [e9] at h; cases h), fun _ => ⟨rfl, tp, th, rt, as, gTape g ++ pad, cs, lz, h1, h2, ⟨hm1, hm.2⟩, rdS_ok hok⟩⟩
  rcases hrd with ⟨hf, t, rfl, htx⟩ | ⟨hf, rfl⟩
  · refine lv_astore_n (lv' := [(2, .ref t), (0, .ref x), (1, .int (iI p0))]) hx hb dX4_keep_4 rfl hl (by decide) rfl (fun ls hl => ?_)
    refine lv_aload_n hx hb dX4_keep_5 rfl (lv_at hl 1 rfl) ?_
    refine lv_aload_n hx hb dX4_keep_6 rfl (lv_at hl 0 rfl) ?_
    refine lv_ifnull hx hb dX4_keep_7 ?_
    refine lv_iload_n hx hb dX4_keep_10 rfl (lv_at hl 2 rfl) ?_
    refine z_callS cx (j := 1) (m_X4_isPath G l _ p0 hz (mc := 0) (ms := 0)) (lw_S q1209 q1210 q57 q1211) (by decide +kernel) rfl (rest := [.ref x]) rfl hl (Nat.le_of_ble_eq_true rfl) (by decide) (by omega) dX4_keep_11 hS (fun q h => Or.inl (Nat.le_trans hS.1 h)) (fun v11 H locs hp11 hz9 hk9 hS => ?_)
    have hE9 := Ext.of hz9 hk9 (fun q h => h)
    have hx9 := hx9.ext hE9
    have hb11 := b2i_rg (decide (0 ≤ p0 ∧ p0 < 16))
    subst hp11
    have hR2 := hR2.ext hE9
    have htx := htx.ext hE9
    have hx7 := hx9
    refine z_if_ne cx (tgt := 21) dX4_keep_14 (by decide) (by omega) (fun c14 => ?_) (fun c14 => ?_)
    · have hp9 := b2i_T c14
      have e9 : rdOk g p0 = true := decide_eq_true ⟨hf, hp9⟩
      refine lv_iconst (v := iI (0)) hx hb dX4_keep_21 rfl ?_
      refine z_put cx (k0 := 4) (vs' := [.ref tp, .int (iI 0), .int (iI ((rdT (gTape g)).1)), .int (iI (gTime g)), .int (iI 0), .long (lN (gUse g)), .ref rt, .ref th, .int (iI ↑as.length)]) hx9 hax hS rfl in_X4 tyX4_ok nmX4 (by decide) q1159 rfl rfl  rfl (Nat.le_of_ble_eq_true rfl) ⟨rfl, rfl⟩ dX4_keep_22 (fun H locs hx9 hz9 hq9 hS => ?_)
      have hR2 := hR2.kx hx7 cx.kk hq9
      have htx := htx.kp (Kp.put hq9 (fun q h => by intro z; have : H0.size ≤ q := h; have := hx8.lt; omega))
      refine lv_aload_n hx hb dX4_keep_25 rfl (lv_at hl 1 rfl) ?_
      refine z_get cx (k0 := 4) hx9 rfl in_X4 (by decide) q1159 rfl rfl dX4_keep_26 ?_
      refine z_if_eq cx (tgt := 34) dX4_keep_29 (by decide) (by omega) (fun c29 => ?_) (fun c29 => (by exfalso; exact c29 rfl))
      rw [hf] at hx9
      have hvoT : ∀ nm, ochs (vof (rdX g) nm) ∧ olen (vof (rdX g) nm) 30100 := fun nm => by
        obtain ⟨-, _, _, _, _, _, _, _, -, -, -, -, -, -, hl9, hch, hcl, -⟩ := htx
        exact vof_ok hch hcl hl9.2.2.2
      have hvoR : ∀ nm, ochs (vof (gReq g) nm) ∧ olen (vof (gReq g) nm) 30100 := fun nm => by
        obtain ⟨-, _, _, _, _, _, _, _, -, -, -, -, -, -, hl9, hch, hcl, -⟩ := hR2.2.2.1
        rw [← hrq]
        exact vof_ok hch hcl hl9.2.2.2
      have hvo2 : ochs (vof (rdX g) nCc) ∧ olen (vof (rdX g) nCc) 40000 := ⟨(hvoT nCc).1, fun y hy => Nat.le_trans ((hvoT nCc).2 y hy) (by omega)⟩
      have hkv := kVy_ok (hvoT nVary)
      have htx := htx.kp (P' := PT x tp th as) (Kp.weak (PT.new hR0 hx8))
      have hl1 := hR2.1.lt
      have hl2 := hR2.2.1.lt
      have hl3 := hx9.lt
      have hl4 : ∀ a ∈ as, a < H.size := fun a ha => by obtain ⟨vs, hv⟩ := hR2.2.2.2.ob a ha; exact hv.lt
      refine z_new cx (ci := 7) (vs := [.int (iI 0), .int (iI 0), .int (iI 0), .int (iI 0), .int (iI 0), .int (iI 0), .int (iI 0), .int (iI 0), .null, .null, .null, .long 0]) hS rfl in_X8 tyX8_ok q1153 q1290 q63 (zdefX8) (by omega) dX4_keep_34 (fun gg H hgg hggg Agg hz9 hE9 hS => ?_)
      have hx9 := hx9.ext hE9
      refine lv_dup hx hb dX4_keep_37 rfl ?_
      have hgn : gg ∉ as ∧ gg ≠ tp ∧ gg ≠ th := ⟨fun z => by have := hl4 _ z; omega, by omega, by omega⟩
      have hgx : gg ≠ x := by omega
      have hxg : x ≠ gg := Ne.symm hgx
      have hR3 := (RT3.of hR2).grow (Nat.le_of_eq hgg.symm) hE9
      have htx := htx.kp (PT.grow (Nat.le_of_eq hgg.symm) hE9)
      have hgb : gg ∈ as ++ [gg] := List.mem_append_right _ (List.mem_singleton.mpr rfl)
      clear hR2 hl1 hl2 hl3 hl4 hgg
      have hag : AT G H0 gg := Or.inl hggg
      have hGg : G.2.heap.size ≤ gg := by have := hm.2.2.2.1; have := hx8.lt; omega
      obtain ⟨RC, hRC⟩ : ∃ RC, RC = 2 * (1 + wC (vof (rdX g) nCc)) + (1 + vC nCc none (gReq g)) + (1 + wC (vof (gReq g) nCc)) := ⟨_, rfl⟩
      obtain ⟨RM, hRM⟩ : ∃ RM, RM = 2 * (16 + wS (vof (rdX g) nCc)) + (16 + vS nCc none (gReq g)) + (16 + wS (vof (gReq g) nCc)) := ⟨_, rfl⟩
      obtain ⟨EC, hEC⟩ : ∃ EC, EC = (1 + vC nEtag none (rdX g)) + 5 * (1 + wC (vof (rdX g) nCc)) + (3 + (vC nExp none (rdX g) + vC nDate none (rdX g) + vC nAge none (rdX g))) + plC (kTh g p0) (gTs g) + RC := ⟨_, rfl⟩
      obtain ⟨EM, hEM⟩ : ∃ EM, EM = (16 + vS nEtag none (rdX g)) + 5 * (16 + wS (vof (rdX g) nCc)) + (48 + (vS nExp none (rdX g) + vS nDate none (rdX g) + vS nAge none (rdX g))) + plS (kTh g p0) (gTs g) + RM := ⟨_, rfl⟩
      have l257 : ∀ (fuel : Nat) (as1 : List Nat), 0 < fuel → (kMay g p0 = false) → (as1.Sublist as) → ∀ (H : Heap) (locs : List Loc) (ls : Array Slot) (k n : Nat), va_S (AT G H0) H0 H locs → Ob G H x 5 [.ref tp, .int (iI 0), .int (iI (-1)), .int (iI (gTime g)), .int (iI 0), .long (lN (gUse g)), .ref rt, .ref th, .int (iI (as1.length : Int))] → (RT3 G H x tp th rt as1 (as ++ [gg]) [] (gTape g ++ pad) cs lz (kTs1 g p0)) → (k ≤ mc) → (n ≤ ms) → lv_has ls 8 [(0, .ref x), (3, .ref gg)] → W p l e ⟨6, mc, ms, 137⟩ s m args below meth c H locs k n Q (F0 m 257 ls []) := by
        intro fuel
        induction fuel with
        | zero => intro as1 hf9; exact absurd hf9 (Nat.not_lt_zero _)
        | succ fuel ih_l257 =>
          intro as1 hf9 hno hs1 H locs ls k n hS hx9 hR3 hr1 hr2 hl
          have hl1 := hR3.2.2.2.1
          have hll := hs1.length_le
          refine lv_iconst (v := iI (0)) hx hb dX4_keep_257 rfl ?_
          refine lv_istore (lv' := [(7, .int (iI 0)), (0, .ref x), (3, .ref gg)]) hx hb dX4_keep_258 hl (by decide) rfl (fun ls hl => ?_)
          refine lv_iload hx hb dX4_keep_260 (lv_at hl 0 rfl) ?_
          refine z_if_ne cx (tgt := 267) dX4_keep_262 (by decide) (by omega) (fun c262 => (by exfalso; exact absurd c262 (by decide))) (fun c262 => ?_)
          refine lv_iconst (v := iI (0)) hx hb dX4_keep_265 rfl ?_
          exact z_iret cx hQ rfl rfl (⟨fun _ => ⟨by rw [hno]; rfl, by rw [keepS, hno]; exact ⟨tp, th, rt, as1, gTape g ++ pad, cs, lz, hx9, hR3.to (fun q hq => List.mem_append_left _ (hs1.subset hq)), ⟨hm1, hrq, hm.2.2.1.sublist hs1, hm.2.2.2.1, hm.2.2.2.2.1, hm.2.2.2.2.2.1, fun q hq => hm.2.2.2.2.2.2 q (hs1.subset hq)⟩, ⟨chs_nil, Nat.zero_le _, by show -1 ≤ (-1 : Int) ∧ (-1 : Int) ≤ 300; decide, htm, by show (kTs1 g p0).length ≤ 24; omega, hok.2.2.2.2.2⟩⟩⟩, fun h => (by rw [e9] at h; cases h)⟩) hS (by omega) dX4_keep_266
      have l253 : ∀ (fuel : Nat) (as1 : List Nat), 0 < fuel → (kMay g p0 = true) → (as1.Sublist as) → ∀ (H : Heap) (locs : List Loc) (ls : Array Slot) (k n : Nat), va_S (AT G H0) H0 H locs → Ob G H x 5 [.ref tp, .int (iI 0), .int (iI (-1)), .int (iI (gTime g)), .int (iI 0), .long (lN (gUse g)), .ref rt, .ref th, .int (iI (as1.length : Int))] → (RT3 G H x tp th rt as1 (as ++ [gg]) [] (gTape g ++ pad) cs lz (kTs1 g p0)) → (MTh G (PT x tp th (as ++ [gg])) H gg (kTh g p0)) → (k ≤ mc) → (n ≤ ms) → lv_has ls 8 [(0, .ref x), (3, .ref gg)] → W p l e ⟨6, mc, ms, 137⟩ s m args below meth c H locs k n Q (F0 m 253 ls []) := by
        intro fuel
        induction fuel with
        | zero => intro as1 hf9; exact absurd hf9 (Nat.not_lt_zero _)
        | succ fuel ih_l253 =>
          intro as1 hf9 hyes hs1 H locs ls k n hS hx9 hR3 hMg hr1 hr2 hl
          have hl1 := hR3.2.2.2.1
          have hll := hs1.length_le
          have hga : gg ∉ as1 := fun z => hgn.1 (hs1.subset z)
          refine lv_iconst (v := iI (1)) hx hb dX4_keep_253 rfl ?_
          refine lv_goto (tgt := 258) hx hb dX4_keep_254 (by decide) ?_
          refine lv_istore (lv' := [(7, .int (iI 1)), (0, .ref x), (3, .ref gg)]) hx hb dX4_keep_258 hl (by decide) rfl (fun ls hl => ?_)
          refine lv_iload hx hb dX4_keep_260 (lv_at hl 0 rfl) ?_
          refine z_if_ne cx (tgt := 267) dX4_keep_262 (by decide) (by omega) (fun c262 => ?_) (fun c262 => (by exfalso; exact absurd c262 (by decide)))
          refine lv_aload_n hx hb dX4_keep_267 rfl (lv_at hl 1 rfl) ?_
          refine lv_aload_n hx hb dX4_keep_268 rfl (lv_at hl 2 rfl) ?_
          have hx6 := hx9
          have hr24 : 25 - as1.length = (24 - as1.length) + 1 := by omega
          have hth7 := hR3.2.1
          rw [hr24] at hth7
          obtain ⟨tk, re, rv, rw9, hOg, hre, hrv, hrw⟩ := hMg
          refine z_callVv cx (j := 1) (m_X4_putLast G l _ x th gg as1 (24 - as1.length) (lN (gUse g)) _ _ _ _ _ _ _ _ _ _ _ _ _ _ _ _ _ _ hx9 hth7 hOg (by omega) (mc := 0) (ms := 0)) (lw_V q1371 q1373 qs29 q57 q1374) (zrecv cx hx9 rfl) (by decide +kernel) rfl (rest := []) rfl hl (Nat.le_of_ble_eq_true rfl) (by decide) (by omega) dX4_keep_269 hS (fun q h => by rcases h with h | h | h | h; exact Or.inl (Nat.le_trans hS.1 h); exact h ▸ hax; exact h ▸ hath; exact h ▸ hag) (fun H locs hp269 hz9 hk9 hS => ?_)
          obtain ⟨hx9, hth9, hOg⟩ := hp269
          rw [lN_s] at hx9 hOg
          have kp := PT.k3 (x := x) (tp := tp) (th := th) hgb hk9
          have hlen : (as1 ++ [gg]).length = as1.length + 1 := by rw [List.length_append, List.length_singleton]
          have hR4 := hR3.put hx6 cx.kk hgb hga hgn.2.1 hk9 (by rw [hlen, show 25 - (as1.length + 1) = 24 - as1.length by omega]; exact hth9) (t := useT (kTh g p0) (gUse g + 1)) ⟨useT_ok tk (by omega), re, rv, rw9, hOg, hre.kp kp, hrv.kp kp, hrw.kp kp⟩
          have hl2 : (as1 ++ [gg]).length = (kTs2 g p0).length := hR4.2.2.2.1
          have hsub : ∀ q ∈ as1 ++ [gg], q ∈ as ++ [gg] := fun q hq => by
            rcases List.mem_append.mp hq with z | z
            · exact List.mem_append_left _ (hs1.subset z)
            · exact List.mem_append_right _ z
          have hGs : ∀ q ∈ as1 ++ [gg], G.2.heap.size ≤ q := fun q hq => by
            rcases List.mem_append.mp hq with z | z
            · exact hm.2.2.2.2.2.2 q (hs1.subset z)
            · rw [List.mem_singleton.mp z]; exact hGg
          have hnd : (as1 ++ [gg]).Nodup := nd_snoc (hm.2.2.1.sublist hs1) hga
          rw [← hlen] at hx9
          have fin : ∀ (as2 : List Nat) (H : Heap), as2.Nodup → (∀ q ∈ as2, q ∈ as1 ++ [gg]) → as2.length ≤ 24 → Ob G H x 5 (xT tp rt th as2.length (([], -1, gTime g, gReq g, kTs3 g p0, gUse g + 1) : Sg) 0) → RT3 G H x tp th rt as2 (as ++ [gg]) [] (gTape g ++ pad) cs lz (kTs3 g p0) → ((rdOk g p0 = true → (Value.int (iI 1)) = .int (iI (b2i (kMay g p0))) ∧ RepT G H x 0 (keepS g p0)) ∧ (rdOk g p0 = false → (Value.int (iI 1)) = .int (iI 0) ∧ RepT G H x 1 (rdS g))) := fun as2 H h1 h2 h3 h4 h5 => by
            have h6 := h5.2.2.2.1
            exact ⟨fun _ => ⟨by rw [hyes]; rfl, by rw [keepS, hyes]; exact ⟨tp, th, rt, as2, gTape g ++ pad, cs, lz, h4, h5.to (fun q hq => hsub q (h2 q hq)), ⟨hm1, hrq, h1, hm.2.2.2.1, hm.2.2.2.2.1, hm.2.2.2.2.2.1, fun q hq => hGs q (h2 q hq)⟩, ⟨chs_nil, Nat.zero_le _, by show -1 ≤ (-1 : Int) ∧ (-1 : Int) ≤ 300; decide, htm, by show (kTs3 g p0).length ≤ 24; omega, by show gUse g + 1 < 100000; omega⟩⟩⟩, fun h => (by rw [e9] at h; cases h)⟩
          refine lv_aload_n hx hb dX4_keep_272 rfl (lv_at hl 1 rfl) ?_
          refine z_get cx (k0 := 8) hx9 rfl in_X4 (by decide) q1163 rfl rfl dX4_keep_273 ?_
          refine lv_bipush (v := iI (24)) hx hb dX4_keep_276 (by decide) ?_
          refine z_icmp_le cx (tgt := 289) dX4_keep_278 (by decide) (by omega) (fun c278 => ?_) (fun c278 => ?_)
          · have e3 : kTs3 g p0 = kTs2 g p0 := by rw [kTs3, if_neg (by omega)]
            refine lv_iconst (v := iI (1)) hx hb dX4_keep_289 rfl ?_
            exact z_iret cx hQ rfl rfl (fin _ _ hnd (fun q hq => hq) (by omega) (by rw [e3]; exact hx9) (by rw [e3]; exact hR4)) hS (by omega) dX4_keep_290
          · have e3 : kTs3 g p0 = rmi (kTs2 g p0) (lst1 ((kTs2 g p0).map tUsed) (((kTs2 g p0).map tUsed).drop 1) 1 0) := by rw [kTs3, if_pos (by omega)]
            obtain ⟨I, hI⟩ : ∃ I, I = lst1 ((kTs2 g p0).map tUsed) (((kTs2 g p0).map tUsed).drop 1) 1 0 := ⟨_, rfl⟩
            rw [← hI] at e3
            have hIl : I < (as1 ++ [gg]).length := by
              have h9 := lst1_lt ((kTs2 g p0).map tUsed) (((kTs2 g p0).map tUsed).drop 1) 1 0 (by decide)
              rw [List.length_drop, List.length_map, ← hI] at h9
              omega
            refine lv_aload_n hx hb dX4_keep_281 rfl (lv_at hl 1 rfl) ?_
            refine lv_aload_n hx hb dX4_keep_282 rfl (lv_at hl 1 rfl) ?_
            refine z_callV cx (j := 0) (m_X4_longestAgo G l _ _ x th (as1 ++ [gg]) (25 - (as1 ++ [gg]).length) (kTs2 g p0) _ _ _ _ _ _ _ hx9 hR4.2.1 hR4.2.2.2 (by omega) (mc := 0) (ms := 0)) (lw_V q1375 q1377 qs30 q57 q1378) (zrecv cx hx9 rfl) (by decide +kernel) rfl (rest := [.ref x]) rfl hl (Nat.le_of_ble_eq_true rfl) (by decide) (by omega) dX4_keep_283 hS (fun q h => Or.inl (Nat.le_trans hS.1 h)) (fun v283 H locs hp283 hz9 hk9 hS => ?_)
            have hE9 := Ext.of hz9 hk9 (fun q h => h)
            obtain rfl : v283 = Value.int (iI (I : Int)) := by rw [hI]; exact hp283
            have hx9 := hx9.ext hE9
            have hR4 := hR4.ext hE9
            have hx6 := hx9
            refine z_callVv cx (j := 1) (m_X4_takeOut G l _ x th I (as1 ++ [gg]) (25 - (as1 ++ [gg]).length) _ _ _ _ _ _ _ hx9 hR4.2.1 hR4.2.2.2.ob hIl (by omega) (mc := 0) (ms := 0)) (lw_V q1362 q1364 qs28 q57 q1365) (zrecv cx hx9 rfl) (by decide +kernel) rfl (rest := []) rfl hl (Nat.le_of_ble_eq_true rfl) (by decide) (by omega) dX4_keep_286 hS (fun q h => by rcases h with h | h | h; exact Or.inl (Nat.le_trans hS.1 h); exact h ▸ hax; exact h ▸ hath) (fun H locs hp286 hz9 hk9 hS => ?_)
            obtain ⟨hx9, hth9⟩ := hp286
            have hlr := rmi_len hIl
            have hR5 := hR4.rm hx6 cx.kk hk9 (by rw [hlr, show 25 - ((as1 ++ [gg]).length - 1) = 25 - (as1 ++ [gg]).length + 1 by omega]; exact hth9)
            rw [← hlr] at hx9
            refine lv_iconst (v := iI (1)) hx hb dX4_keep_289 rfl ?_
            exact z_iret cx hQ rfl rfl (fin _ _ (rmi_nd hnd I) (fun q hq => rmi_mem hq) (by omega) (by rw [e3]; exact hx9) (by rw [e3]; exact hR5)) hS (by omega) dX4_keep_290
      have l185 : ∀ (fuel : Nat) (as1 : List Nat) (r3 : Option Nat), 0 < fuel → (as1.Sublist as) → ∀ (H : Heap) (locs : List Loc) (ls : Array Slot) (k n : Nat), va_S (AT G H0) H0 H locs → Ob G H x 5 [.ref tp, .int (iI 0), .int (iI (-1)), .int (iI (gTime g)), .int (iI 0), .long (lN (gUse g)), .ref rt, .ref th, .int (iI (as1.length : Int))] → (RT3 G H x tp th rt as1 (as ++ [gg]) [] (gTape g ++ pad) cs lz (kTs1 g p0)) → (MTh G (PT x tp th (as ++ [gg])) H gg (kTh g p0)) → (Orw G (PT x tp th (as ++ [gg])) H r3 (vof (rdX g) nCc)) → (k + RC ≤ mc) → (n + RM ≤ ms) → lv_has ls 8 [(0, .ref x), (3, .ref gg), (4, va_rf r3)] → W p l e ⟨6, mc, ms, 137⟩ s m args below meth c H locs k n Q (F0 m 185 ls []) := by
        intro fuel
        induction fuel with
        | zero => intro as1 r3 hf9; exact absurd hf9 (Nat.not_lt_zero _)
        | succ fuel ih_l185 =>
          intro as1 r3 hf9 hs1 H locs ls k n hS hx9 hR3 hMg hv3 hr1 hr2 hl
          refine z_aloadq cx dX4_keep_185 (lv_at hl 2 rfl) ?_
          refine lv_ldc2 hx hb cx.wn (cx.ts _ q1366) dX4_keep_187 ?_
          refine lv_lconst (v := 0) hx hb dX4_keep_190 (by decide) ?_
          refine z_callS cx (j := 3) (m_X4_has G l _ _ r3 (vof (rdX g) nCc) 7957629040484905573 0 nNs nm_ns ok_ns hv3 hvo2 (mc := 1 + wC (vof (rdX g) nCc)) (ms := 16 + wS (vof (rdX g) nCc)) (Nat.le_refl _) (Nat.le_refl _)) (lw_S q1255 q1256 q57 q1257) (by decide +kernel) rfl (rest := []) rfl hl (Nat.le_of_ble_eq_true rfl) (by decide) (by omega) dX4_keep_191 hS (fun q h => Or.inl (Nat.le_trans hS.1 h)) (fun v191 H locs hp191 hz9 hk9 hS => ?_)
          have hE9 := Ext.of hz9 hk9 (fun q h => h)
          have hx9 := hx9.ext hE9
          have hb191 := b2i_rg (hasW (vof (rdX g) nCc) nNs)
          subst hp191
          have hR3 := hR3.ext hE9
          have hMg := hMg.ext hE9
          have hv3 := hv3.kp (Kp.ext hE9)
          refine z_if_ne cx (tgt := 257) dX4_keep_194 (by decide) (by omega) (fun c194 => ?_) (fun c194 => ?_)
          · have h9 : hasW (vof (rdX g) nCc) nNs = true := by cases h : hasW (vof (rdX g) nCc) nNs with | true => rfl | false => rw [h] at c194; exact absurd rfl c194
            exact l257 _ as1 (Nat.lt_succ_self _) (by simp [kMay, h9]) hs1 _ _ _ _ _ hS hx9 hR3 (by omega) (by omega) (lv_sub hl [0, 1] rfl)
          · have h1 : hasW (vof (rdX g) nCc) nNs = false := b2i_1.mp c194
            refine z_aloadq cx dX4_keep_197 (lv_at hl 2 rfl) ?_
            refine lv_ldc2 hx hb cx.wn (cx.ts _ q1367) dX4_keep_199 ?_
            refine lv_lconst (v := 0) hx hb dX4_keep_202 (by decide) ?_
            refine z_callS cx (j := 3) (m_X4_has G l _ _ r3 (vof (rdX g) nCc) 31650994674824293 0 nPriv nm_priv ok_priv hv3 hvo2 (mc := 1 + wC (vof (rdX g) nCc)) (ms := 16 + wS (vof (rdX g) nCc)) (Nat.le_refl _) (Nat.le_refl _)) (lw_S q1255 q1256 q57 q1257) (by decide +kernel) rfl (rest := []) rfl hl (Nat.le_of_ble_eq_true rfl) (by decide) (by omega) dX4_keep_203 hS (fun q h => Or.inl (Nat.le_trans hS.1 h)) (fun v203 H locs hp203 hz9 hk9 hS => ?_)
            have hE9 := Ext.of hz9 hk9 (fun q h => h)
            have hx9 := hx9.ext hE9
            have hb203 := b2i_rg (hasW (vof (rdX g) nCc) nPriv)
            subst hp203
            have hR3 := hR3.ext hE9
            have hMg := hMg.ext hE9
            refine z_if_ne cx (tgt := 257) dX4_keep_206 (by decide) (by omega) (fun c206 => ?_) (fun c206 => ?_)
            · have h9 : hasW (vof (rdX g) nCc) nPriv = true := by cases h : hasW (vof (rdX g) nCc) nPriv with | true => rfl | false => rw [h] at c206; exact absurd rfl c206
              exact l257 _ as1 (Nat.lt_succ_self _) (by simp [kMay, h9]) hs1 _ _ _ _ _ hS hx9 hR3 (by omega) (by omega) (lv_sub hl [0, 1] rfl)
            · have h2 : hasW (vof (rdX g) nCc) nPriv = false := b2i_1.mp c206
              obtain ⟨tk, re, rv, rw9, hOg, hre, hrv, hrw⟩ := hMg
              refine lv_aload_n hx hb dX4_keep_209 rfl (lv_at hl 1 rfl) ?_
              refine z_get cx (k0 := 9) hOg rfl in_X8 (by decide) q1306 rfl rfl dX4_keep_210 ?_
              refine z_callS cx (j := 1) (m_X4_hasStar G l _ _ rv (kVy (rdX g)) hrv (by omega) (fun v hv => ⟨(hkv.1 v hv).1, Nat.le_trans (hkv.1 v hv).2 (by omega)⟩) (mc := 0) (ms := 0)) (lw_S q1368 q1369 q57 q1370) (by decide +kernel) rfl (rest := []) rfl hl (Nat.le_of_ble_eq_true rfl) (by decide) (by omega) dX4_keep_213 hS (fun q h => Or.inl (Nat.le_trans hS.1 h)) (fun v213 H locs hp213 hz9 hk9 hS => ?_)
              have hE9 := Ext.of hz9 hk9 (fun q h => h)
              have hx9 := hx9.ext hE9
              have hOg := hOg.ext hE9
              have hb213 := b2i_rg (star (kVy (rdX g)))
              subst hp213
              have hR3 := hR3.ext hE9
              have hre := hre.kp (Kp.ext hE9)
              have hrv := hrv.ext hE9
              have hrw := hrw.ext hE9
              refine z_if_ne cx (tgt := 257) dX4_keep_216 (by decide) (by omega) (fun c216 => ?_) (fun c216 => ?_)
              · have h9 : star (kVy (rdX g)) = true := by cases h : star (kVy (rdX g)) with | true => rfl | false => rw [h] at c216; exact absurd rfl c216
                exact l257 _ as1 (Nat.lt_succ_self _) (by simp [kMay, h9]) hs1 _ _ _ _ _ hS hx9 hR3 (by omega) (by omega) (lv_sub hl [0, 1] rfl)
              · have h3 : star (kVy (rdX g)) = false := b2i_1.mp c216
                refine lv_aload_n hx hb dX4_keep_219 rfl (lv_at hl 0 rfl) ?_
                refine z_get cx (k0 := 6) hx9 rfl in_X4 (by decide) q1161 rfl rfl dX4_keep_220 ?_
                refine z_callS cx (j := 0) (m_X4_cacheControl G l _ (mc := 1) (ms := 16) (Nat.le_refl _) (Nat.le_refl _)) (lw_S q1212 q1213 q57 q1214) (by decide +kernel) rfl (rest := [.ref rt]) rfl hl (Nat.le_of_ble_eq_true rfl) (by decide) (by omega) dX4_keep_223 hS (fun q h => Or.inl (Nat.le_trans hS.1 h)) (fun v223 H locs hp223 hz9 hk9 hS => ?_)
                have hE9 := Ext.of hz9 hk9 (fun q h => h)
                obtain ⟨b, rfl, -, Ab⟩ := hp223
                have hx9 := hx9.ext hE9
                have hOg := hOg.ext hE9
                have hR3 := hR3.ext hE9
                have hre := hre.kp (Kp.ext hE9)
                have hrv := hrv.ext hE9
                have hrw := hrw.ext hE9
                refine z_callS cx (j := 2) (m_X4_valueOf G l _ _ rt b cs lz nCc hR3.2.2.1 Ab ok_cc (mc := vC nCc none (gReq g)) (ms := vS nCc none (gReq g)) (by rw [hrq]; exact Nat.le_refl _) (by rw [hrq]; exact Nat.le_refl _)) (lw_S q1220 q1221 q57 q1222) (by decide +kernel) rfl (rest := []) rfl hl (Nat.le_of_ble_eq_true rfl) (by decide) (by omega) dX4_keep_226 hS (fun q h => Or.inl (Nat.le_trans hS.1 h)) (fun v226 H locs hp226 hz9 hk9 hS => ?_)
                have hE9 := Ext.of hz9 hk9 (fun q h => h)
                obtain ⟨r9, rfl, hv9⟩ := hp226
                have hx9 := hx9.ext hE9
                have hOg := hOg.ext hE9
                have hR3 := hR3.ext hE9
                have hre := hre.kp (Kp.ext hE9)
                have hrv := hrv.ext hE9
                have hrw := hrw.ext hE9
                rw [hrq] at hv9
                refine lv_ldc2 hx hb cx.wn (cx.ts _ q1366) dX4_keep_229 ?_
                refine lv_lconst (v := 0) hx hb dX4_keep_232 (by decide) ?_
                refine z_callS cx (j := 3) (m_X4_has G l _ _ r9 (vof (gReq g) nCc) 7957629040484905573 0 nNs nm_ns ok_ns hv9 ⟨(hvoR nCc).1, fun y hy => Nat.le_trans ((hvoR nCc).2 y hy) (by omega)⟩ (mc := 1 + wC (vof (gReq g) nCc)) (ms := 16 + wS (vof (gReq g) nCc)) (Nat.le_refl _) (Nat.le_refl _)) (lw_S q1255 q1256 q57 q1257) (by decide +kernel) rfl (rest := []) rfl hl (Nat.le_of_ble_eq_true rfl) (by decide) (by omega) dX4_keep_233 hS (fun q h => Or.inl (Nat.le_trans hS.1 h)) (fun v233 H locs hp233 hz9 hk9 hS => ?_)
                have hE9 := Ext.of hz9 hk9 (fun q h => h)
                have hx9 := hx9.ext hE9
                have hOg := hOg.ext hE9
                have hb233 := b2i_rg (hasW (vof (gReq g) nCc) nNs)
                subst hp233
                have hR3 := hR3.ext hE9
                have hre := hre.kp (Kp.ext hE9)
                have hrv := hrv.ext hE9
                have hrw := hrw.ext hE9
                refine z_if_ne cx (tgt := 257) dX4_keep_236 (by decide) (by omega) (fun c236 => ?_) (fun c236 => ?_)
                · have h9 : hasW (vof (gReq g) nCc) nNs = true := by cases h : hasW (vof (gReq g) nCc) nNs with | true => rfl | false => rw [h] at c236; exact absurd rfl c236
                  exact l257 _ as1 (Nat.lt_succ_self _) (by simp [kMay, h9]) hs1 _ _ _ _ _ hS hx9 hR3 (by omega) (by omega) (lv_sub hl [0, 1] rfl)
                · have h4 : hasW (vof (gReq g) nCc) nNs = false := b2i_1.mp c236
                  have hlf := tk.2.2.2.2.2.2.1
                  have hMg : MTh G (PT x tp th (as ++ [gg])) H gg (kTh g p0) := ⟨tk, re, rv, rw9, hOg, hre, hrv, hrw⟩
                  refine lv_aload_n hx hb dX4_keep_239 rfl (lv_at hl 1 rfl) ?_
                  refine z_get cx (k0 := 3) hOg rfl in_X8 (by decide) q1300 rfl rfl dX4_keep_240 ?_
                  refine z_if_gt cx (tgt := 253) dX4_keep_243 (by decide) (by omega) (fun c243 => ?_) (fun c243 => ?_)
                  · have h9 : 0 < tLife (kTh g p0) := by omega
                    exact l253 _ as1 (Nat.lt_succ_self _) (by simp [kMay, h1, h2, h3, h4, h9]) hs1 _ _ _ _ _ hS hx9 hR3 hMg (by omega) (by omega) (lv_sub hl [0, 1] rfl)
                  · have h5 : ¬ 0 < tLife (kTh g p0) := by omega
                    have hre : Orw G (PT x tp th (as ++ [gg])) H re (oet ((etg (rdX g)).getD [])) := hre
                    rw [oet_etg] at hre
                    rcases re with _ | re
                    · have h9 : etg (rdX g) = none := by cases h : etg (rdX g) with | none => rfl | some y => rw [h] at hre; exact hre.elim
                      refine lv_aload_n hx hb dX4_keep_246 rfl (lv_at hl 1 rfl) ?_
                      refine z_get cx (k0 := 8) hOg rfl in_X8 (by decide) q1305 rfl rfl dX4_keep_247 ?_
                      refine lv_ifnullN (tgt := 257) hx hb dX4_keep_250 (by decide) ?_
                      exact l257 _ as1 (Nat.lt_succ_self _) (by simp [kMay, h1, h2, h3, h4, h5, h9]) hs1 _ _ _ _ _ hS hx9 hR3 (by omega) (by omega) (lv_sub hl [0, 1] rfl)
                    · have h9 : ¬ etg (rdX g) = none := fun h => by rw [h] at hre; exact hre.elim
                      refine lv_aload_n hx hb dX4_keep_246 rfl (lv_at hl 1 rfl) ?_
                      refine z_get cx (k0 := 8) hOg rfl in_X8 (by decide) q1305 rfl rfl dX4_keep_247 ?_
                      refine lv_ifnull hx hb dX4_keep_250 ?_
                      exact l253 _ as1 (Nat.lt_succ_self _) (by simp [kMay, h1, h2, h3, h4, h9]) hs1 _ _ _ _ _ hS hx9 hR3 hMg (by omega) (by omega) (lv_sub hl [0, 1] rfl)
      have l90 : ∀ (fuel : Nat) (rv : Nat) (r3 : Option Nat), 0 < fuel → ∀ (H : Heap) (locs : List Loc) (ls : Array Slot) (k n : Nat), va_S (AT G H0) H0 H locs → Ob G H x 5 [.ref tp, .int (iI 0), .int (iI (-1)), .int (iI (gTime g)), .int (iI 0), .long (lN (gUse g)), .ref rt, .ref th, .int (iI ↑as.length)] → Ob G H gg 7 [.int (iI p0), .int (iI (-2)), .int (iI (-2)), .int (iI 0), .int (iI 0), .int (iI 0), .int (iI 0), .int (iI 0), .null, .null, .null, .long 0] → (RT3 G H x tp th rt as (as ++ [gg]) [] (gTape g ++ pad) cs lz (gTs g)) → (Tx G (PT x tp th (as ++ [gg])) H t (gTape g) (rdT (gTape g)).2) → (Orw G (PT x tp th (as ++ [gg])) H r3 (vof (rdX g) nCc)) → (Rq G (PT x tp th (as ++ [gg])) H rv ((kVy (rdX g)).map some)) → (k + (1 + kvC (gReq g) (kVy (rdX g)) + EC) ≤ mc) → (n + ((kVy (rdX g)).length + kvS (gReq g) (kVy (rdX g)) + EM) ≤ ms) → lv_has ls 8 [(0, .ref x), (2, .ref t), (3, .ref gg), (4, va_rf r3)] → W p l e ⟨6, mc, ms, 137⟩ s m args below meth c H locs k n Q (F0 m 90 ls [.ref rv, .ref gg]) := by
        intro fuel
        induction fuel with
        | zero => intro rv r3 hf9; exact absurd hf9 (Nat.not_lt_zero _)
        | succ fuel ih_l90 =>
          intro rv r3 hf9  H locs ls k n hS hx9 Agg hR3 htx hv3 hrv hr1 hr2 hl
          obtain ⟨N, hN⟩ : ∃ N, N = (kVy (rdX g)).length := ⟨_, rfl⟩
          refine z_put cx (k0 := 9) (vs' := [.int (iI p0), .int (iI (-2)), .int (iI (-2)), .int (iI 0), .int (iI 0), .int (iI 0), .int (iI 0), .int (iI 0), .null, .ref rv, .null, .long 0]) Agg hag hS rfl in_X8 tyX8_ok nmX8 (by decide) q1306 rfl rfl  rfl (Nat.le_of_ble_eq_true rfl) ⟨rfl, rfl⟩ dX4_keep_90 (fun H locs Agg hz9 hq9 hS => ?_)
          have hx9 := hx9.kept (hq9 _ hxg)
          have kq := kqp (H := _) hq9
          have kp := PT.kb (x := x) (tp := tp) (th := th) hgb kq
          have hR3 := hR3.kb hgb hgn kq
          have htx := htx.kp kp
          have hv3 := hv3.kp kp
          have hrv := hrv.kp kp
          have hkl := hkv.2
          have hrv0 := hrv
          obtain ⟨qs, hprv, hAq, hOq⟩ := hrv.ors
          have hql : qs.length = N := by rw [hOq.1, List.length_map, hN]
          have hl1 := hR3.1.lt
          have hl2 := hR3.2.1.lt
          have hl3 := hx9.lt
          have hgl := Agg.lt
          have hl4 : ∀ a ∈ as, a < H.size := fun a ha => by obtain ⟨vs, hv⟩ := hR3.2.2.2.ob a ha; exact hv.lt
          refine lv_aload_n hx hb dX4_keep_93 rfl (lv_at hl 2 rfl) ?_
          refine lv_aload_n hx hb dX4_keep_94 rfl (lv_at hl 2 rfl) ?_
          refine z_get cx (k0 := 9) Agg rfl in_X8 (by decide) q1306 rfl rfl dX4_keep_95 ?_
          refine z_alenQ cx (t0 := 5) hAq rfl dX4_keep_98 ?_
          refine z_newR cx hS q1242 (qs.length) (by omega) (by omega) dX4_keep_99 (fun rw9 H hrw9 hgrw9 Arw9 hz9 hE9 hS => ?_)
          have hx9 := hx9.ext hE9
          have Agg := Agg.ext hE9
          have hAq := hAq.ext hE9
          have hwn : rw9 ∉ as ∧ rw9 ≠ tp ∧ rw9 ≠ th := ⟨fun z => by have := hl4 _ z; omega, by omega, by omega⟩
          have hxw : x ≠ rw9 := by omega
          have hgw : gg ≠ rw9 := by omega
          have hwg : rw9 ≠ gg := Ne.symm hgw
          have hPw : PT x tp th (as ++ [gg]) rw9 := ⟨Ne.symm hxw, hwn.2.1, hwn.2.2, fun z => by
            rcases List.mem_append.mp z with z | z
            · exact hwn.1 z
            · exact hwg (List.mem_singleton.mp z)⟩
          have e8 : as ++ [gg] ++ [rw9] = as ++ [gg, rw9] := by rw [List.append_assoc]; rfl
          have kp := PT.grow (x := x) (tp := tp) (th := th) (bs := as ++ [gg]) (Nat.le_of_eq hrw9.symm) hE9
          rw [e8] at kp
          have hR3 := hR3.grow (Nat.le_of_eq hrw9.symm) hE9
          rw [e8] at hR3
          have htx := htx.kp kp
          have hv3 := hv3.kp kp
          have hrv := hrv.kp kp
          have hgb2 : gg ∈ as ++ [gg, rw9] := List.mem_append_right _ List.mem_cons_self
          have hwb : rw9 ∈ as ++ [gg, rw9] := List.mem_append_right _ (List.mem_cons_of_mem _ (List.mem_singleton.mpr rfl))
          have hs9 : ∀ a ∈ as ++ [gg], a ∈ as ++ [gg, rw9] := fun a ha => by rw [← e8]; exact List.mem_append_left _ ha
          clear hl1 hl2 hl3 hgl hl4
          refine z_put cx (k0 := 10) (vs' := [.int (iI p0), .int (iI (-2)), .int (iI (-2)), .int (iI 0), .int (iI 0), .int (iI 0), .int (iI 0), .int (iI 0), .null, .ref rv, .ref rw9, .long 0]) Agg hag hS rfl in_X8 tyX8_ok nmX8 (by decide) q1307 rfl rfl  rfl (Nat.le_of_ble_eq_true rfl) ⟨rfl, rfl⟩ dX4_keep_102 (fun H locs Agg hz9 hq9 hS => ?_)
          have hx9 := hx9.kept (hq9 _ hxg)
          have Arw9 := Arw9.kept (hq9 _ hwg)
          have kq := kqp (H := _) hq9
          have kp := PT.kb (x := x) (tp := tp) (th := th) hgb2 kq
          have hR3 := hR3.kb hgb2 hgn kq
          have htx := htx.kp kp
          have hv3 := hv3.kp kp
          have hrv := hrv.kp kp
          refine lv_iconst (v := iI (0)) hx hb dX4_keep_105 rfl ?_
          refine lv_istore (lv' := [(6, .int (iI 0)), (0, .ref x), (2, .ref t), (3, .ref gg), (4, va_rf r3)]) hx hb dX4_keep_106 hl (by decide) rfl (fun ls hl => ?_)
          have lp : ∀ (fuel : Nat) (j : Nat) (rs : List (Option Nat)), (N - j) < fuel → (j ≤ N) → (rs.length = j) → ∀ (H : Heap) (locs : List Loc) (ls : Array Slot) (k n : Nat), va_S (AT G H0) H0 H locs → Ob G H x 5 [.ref tp, .int (iI 0), .int (iI (-1)), .int (iI (gTime g)), .int (iI 0), .long (lN (gUse g)), .ref rt, .ref th, .int (iI ↑as.length)] → Ob G H gg 7 [.int (iI p0), .int (iI (-2)), .int (iI (-2)), .int (iI 0), .int (iI 0), .int (iI 0), .int (iI 0), .int (iI 0), .null, .ref rv, .ref rw9, .long 0] → Aq G H rw9 105 (rs ++ List.replicate (N - j) none) → (RT3 G H x tp th rt as (as ++ [gg, rw9]) [] (gTape g ++ pad) cs lz (gTs g)) → (Tx G (PT x tp th (as ++ [gg, rw9])) H t (gTape g) (rdT (gTape g)).2) → (Orw G (PT x tp th (as ++ [gg, rw9])) H r3 (vof (rdX g) nCc)) → (Rq G (PT x tp th (as ++ [gg, rw9])) H rv ((kVy (rdX g)).map some)) → (Ors G (PT x tp th (as ++ [gg, rw9])) H rs (kVs (gReq g) ((kVy (rdX g)).take j))) → (k + (kvC (gReq g) ((kVy (rdX g)).drop j) + EC) ≤ mc) → (n + (kvS (gReq g) ((kVy (rdX g)).drop j) + EM) ≤ ms) → lv_has ls 8 [(0, .ref x), (2, .ref t), (3, .ref gg), (4, va_rf r3), (6, .int (iI ↑j))] → W p l e ⟨6, mc, ms, 137⟩ s m args below meth c H locs k n Q (F0 m 108 ls []) := by
            intro fuel
            induction fuel with
            | zero => intro j rs hf9; exact absurd hf9 (Nat.not_lt_zero _)
            | succ fuel ih_lp =>
              intro j rs hf9 hj hrl H locs ls k n hS hx9 Agg Arw9 hR3 htx hv3 hrv hO hr1 hr2 hl
              obtain ⟨qs, -, hAq, hOq⟩ := hrv.ors
              have hql : qs.length = N := by rw [hOq.1, List.length_map, hN]
              have hRl : (rs ++ List.replicate (N - j) none).length = N := by rw [List.length_append, List.length_replicate, hrl]; omega
              refine lv_iload hx hb dX4_keep_108 (lv_at hl 4 rfl) ?_
              refine lv_aload_n hx hb dX4_keep_110 rfl (lv_at hl 2 rfl) ?_
              refine z_get cx (k0 := 9) Agg rfl in_X8 (by decide) q1306 rfl rfl dX4_keep_111 ?_
              refine z_alenQ cx (t0 := 5) hAq rfl dX4_keep_114 ?_
              refine z_icmp_ge cx (tgt := 145) dX4_keep_115 (by decide) (by omega) (fun c115 => ?_) (fun c115 => ?_)
              · have e1 : j = N := by omega
                subst e1
                have e3 : (kVy (rdX g)).take j = kVy (rdX g) := by rw [hN, List.take_length]
                rw [e3] at hO
                rw [Nat.sub_self, List.replicate_zero, List.append_nil] at Arw9
                rw [show (kVy (rdX g)).drop j = [] by rw [hN, List.drop_length]] at hr1 hr2
                have kw : Kp (PT x tp th (as ++ [gg, rw9])) H (PT x tp th (as ++ [gg])) H := Kp.weak (fun q _ h => PT.sub hs9 h)
                have hR3 := hR3.sub hs9
                have htx := htx.kp kw
                have hv3 := hv3.kp kw
                have hrv := hrv.kp kw
                have hrw := (hO.kp kw).rq hPw Arw9
                have hr1 : k + (0 + EC) ≤ mc := hr1
                have hr2 : n + (0 + EM) ≤ ms := hr2
                refine lv_aload_n hx hb dX4_keep_145 rfl (lv_at hl 2 rfl) ?_
                refine lv_aload_n hx hb dX4_keep_146 rfl (lv_at hl 1 rfl) ?_
                have nw := fun H1 => hR3.nw (H1 := H1) hx9 (mem1 Agg.lt)
                refine z_callS cx (j := 1) (m_X4_etagOf G l _ _ t (gTape g) (rdT (gTape g)).2 htx (mc := 1 + vC nEtag none (rdX g)) (ms := 16 + vS nEtag none (rdX g)) (Nat.le_refl _) (Nat.le_refl _)) (lw_S q1335 q1336 q57 q1337) (by decide +kernel) rfl (rest := [.ref gg]) rfl hl (Nat.le_of_ble_eq_true rfl) (by decide) (by omega) dX4_keep_147 hS (fun q h => Or.inl (Nat.le_trans hS.1 h)) (fun v147 H locs hp147 hz9 hk9 hS => ?_)
                have hE9 := Ext.of hz9 hk9 (fun q h => h)
                obtain ⟨r5, rfl, het⟩ := hp147
                have hx9 := hx9.ext hE9
                have Agg := Agg.ext hE9
                have hR3 := hR3.ext hE9
                have htx := htx.ext hE9
                have hv3 := hv3.kp (Kp.ext hE9)
                have hrv := hrv.ext hE9
                have hrw := hrw.ext hE9
                have het : Orw G (PT x tp th (as ++ [gg])) H r5 (etg (rdX g)) := het.kp (nw H)
                refine z_put cx (k0 := 8) (vs' := [.int (iI p0), .int (iI (-2)), .int (iI (-2)), .int (iI 0), .int (iI 0), .int (iI 0), .int (iI 0), .int (iI 0), va_rf r5, .ref rv, .ref rw9, .long 0]) Agg hag hS rfl in_X8 tyX8_ok nmX8 (by decide) q1305 rfl rfl  rfl (Nat.le_of_ble_eq_true rfl) (va_fitA r5) dX4_keep_150 (fun H locs Agg hz9 hq9 hS => ?_)
                have hx9 := hx9.kept (hq9 _ hxg)
                have kq := kqp (H := _) hq9
                have kp := PT.kb (x := x) (tp := tp) (th := th) hgb kq
                have hR3 := hR3.kb hgb hgn kq
                have htx := htx.kp kp
                have hv3 := hv3.kp kp
                have hrv := hrv.kp kp
                have hrw := hrw.kp kp
                have het := het.kp kp
                refine lv_aload_n hx hb dX4_keep_153 rfl (lv_at hl 0 rfl) ?_
                refine lv_aload_n hx hb dX4_keep_154 rfl (lv_at hl 2 rfl) ?_
                refine z_aloadq cx dX4_keep_155 (lv_at hl 3 rfl) ?_
                refine z_callVv cx (j := 2) (m_X4_setWords G l _ _ x gg r3 (vof (rdX g) nCc) _ _ _ _ _ _ _ _ _ _ _ _ Agg (fun z => z.2.2.2 hgb) hv3 hvo2 (mc := 5 * (1 + wC (vof (rdX g) nCc))) (ms := 5 * (16 + wS (vof (rdX g) nCc))) (Nat.le_refl _) (Nat.le_refl _)) (lw_V q1339 q1341 qs25 q57 q1342) (zrecv cx hx9 rfl) (by decide +kernel) rfl (rest := []) rfl hl (Nat.le_of_ble_eq_true rfl) (by decide) (by omega) dX4_keep_157 hS (fun q h => by rcases h with h | h; exact Or.inl (Nat.le_trans hS.1 h); exact h ▸ hag) (fun H locs hp157 hz9 hk9 hS => ?_)
                have Agg := hp157
                have kp := PT.kb (x := x) (tp := tp) (th := th) hgb hk9
                have hR3 := hR3.kb hgb hgn hk9
                have htx := htx.kp kp
                have hv3 := hv3.kp kp
                have hrv := hrv.kp kp
                have hrw := hrw.kp kp
                have het := het.kp kp
                have hx9 := hx9.kept (hk9 x hx9.lt (by rintro (z | z); exact absurd hx9.lt (Nat.not_lt.mpr z); exact hxg z))
                refine lv_aload_n hx hb dX4_keep_160 rfl (lv_at hl 0 rfl) ?_
                refine lv_aload_n hx hb dX4_keep_161 rfl (lv_at hl 2 rfl) ?_
                refine lv_aload_n hx hb dX4_keep_162 rfl (lv_at hl 1 rfl) ?_
                refine z_callVv cx (j := 2) (m_X4_setTimes G l _ _ x gg t (gTape g) (rdT (gTape g)).2 (wrd (vof (rdX g) nCc) nSm) (wrd (vof (rdX g) nCc) nMa) (gTime g) _ _ _ _ _ _ _ _ _ _ _ _ _ _ _ _ _ _ Agg hx9 (fun z => z.2.2.2 hgb) htx hxg ⟨by have := wrd_rg (vof (rdX g) nCc) nSm; omega, by have := wrd_rg (vof (rdX g) nCc) nMa; omega⟩ (mc := 3 + (vC nExp none (rdX g) + vC nDate none (rdX g) + vC nAge none (rdX g))) (ms := 48 + (vS nExp none (rdX g) + vS nDate none (rdX g) + vS nAge none (rdX g))) (Nat.le_refl _) (Nat.le_refl _)) (lw_V q1348 q1350 qs26 q57 q1351) (zrecv cx hx9 rfl) (by decide +kernel) rfl (rest := []) rfl hl (Nat.le_of_ble_eq_true rfl) (by decide) (by omega) dX4_keep_163 hS (fun q h => by rcases h with h | h; exact Or.inl (Nat.le_trans hS.1 h); exact h ▸ hag) (fun H locs hp163 hz9 hk9 hS => ?_)
                have Agg := hp163
                have kp := PT.kb (x := x) (tp := tp) (th := th) hgb hk9
                have hR3 := hR3.kb hgb hgn hk9
                have hv3 := hv3.kp kp
                have hrv := hrv.kp kp
                have hrw := hrw.kp kp
                have het := het.kp kp
                have hx9 := hx9.kept (hk9 x hx9.lt (by rintro (z | z); exact absurd hx9.lt (Nat.not_lt.mpr z); exact hxg z))
                have hMg : MTh G (PT x tp th (as ++ [gg])) H gg (kTh g p0) := ⟨kTh_ok hz htm (hvoT nEtag) hkv (fun w => hvoR w) hvo2, r5, rv, rw9, Agg, by rw [kTh, oet_etg]; exact het, hrv, hrw⟩
                refine lv_aload_n hx hb dX4_keep_166 rfl (lv_at hl 0 rfl) ?_
                refine lv_aload_n hx hb dX4_keep_167 rfl (lv_at hl 2 rfl) ?_
                obtain ⟨FX, hFX⟩ : ∃ FX, FX = fix1 (isLk (kTh g p0)) (gTs g) 0 := ⟨_, rfl⟩
                refine z_callV cx (j := 1) (m_X4_placeOf G l _ _ x th gg as (25 - as.length) (gTs g) (kTh g p0) _ _ _ _ _ _ _ hx9 hR3.2.1 hR3.2.2.2 hMg (by omega) (mc := plC (kTh g p0) (gTs g)) (ms := plS (kTh g p0) (gTs g)) (Nat.le_refl _) (Nat.le_refl _)) (lw_V q1358 q1360 qs27 q57 q1361) (zrecv cx hx9 rfl) (by decide +kernel) rfl (rest := []) rfl hl (Nat.le_of_ble_eq_true rfl) (by decide) (by omega) dX4_keep_168 hS (fun q h => Or.inl (Nat.le_trans hS.1 h)) (fun v168 H locs hp168 hz9 hk9 hS => ?_)
                have hE9 := Ext.of hz9 hk9 (fun q h => h)
                obtain rfl : v168 = Value.int (iI FX) := by rw [hFX]; exact hp168
                have hx9 := hx9.ext hE9
                have hR3 := hR3.ext hE9
                have hv3 := hv3.kp (Kp.ext hE9)
                have hMg := hMg.ext hE9
                obtain ⟨fr1, fr2⟩ := fix1_rg (isLk (kTh g p0)) (gTs g) 0
                rw [Nat.zero_add, ← hFX] at fr2
                rw [← hFX] at fr1
                refine lv_istore (lv' := [(6, .int (iI FX)), (0, .ref x), (2, .ref t), (3, .ref gg), (4, va_rf r3)]) hx hb dX4_keep_171 hl (by decide) rfl (fun ls hl => ?_)
                refine lv_iload hx hb dX4_keep_173 (lv_at hl 0 rfl) ?_
                refine lv_iconst (v := iI (-1)) hx hb dX4_keep_175 rfl ?_
                refine z_icmp_eq cx (tgt := 185) dX4_keep_176 (by decide) (by omega) (fun c176 => ?_) (fun c176 => ?_)
                · have e1 : kTs1 g p0 = gTs g := by rw [kTs1, ← hFX, if_pos (by omega)]
                  exact l185 _ as r3 (Nat.lt_succ_self _) (List.Sublist.refl _) _ _ _ _ _ hS hx9 (by rw [e1]; exact hR3) hMg hv3 (by omega) (by omega) (lv_sub hl [1, 3, 4] rfl)
                · obtain ⟨I, hI⟩ : ∃ I : Nat, FX = (I : Int) := ⟨FX.toNat, by omega⟩
                  have e1 : kTs1 g p0 = rmi (gTs g) I := by rw [kTs1, ← hFX, if_neg (by omega), hI, Int.toNat_natCast]
                  have hIl : I < as.length := by omega
                  have hx6 := hx9
                  refine lv_aload_n hx hb dX4_keep_179 rfl (lv_at hl 1 rfl) ?_
                  refine lv_iload hx hb dX4_keep_180 (lv_at hl 0 rfl) ?_
                  rw [hI]
                  refine z_callVv cx (j := 1) (m_X4_takeOut G l _ x th I as (25 - as.length) _ _ _ _ _ _ _ hx9 hR3.2.1 hR3.2.2.2.ob hIl (by omega) (mc := 0) (ms := 0)) (lw_V q1362 q1364 qs28 q57 q1365) (zrecv cx hx9 rfl) (by decide +kernel) rfl (rest := []) rfl hl (Nat.le_of_ble_eq_true rfl) (by decide) (by omega) dX4_keep_182 hS (fun q h => by rcases h with h | h | h; exact Or.inl (Nat.le_trans hS.1 h); exact h ▸ hax; exact h ▸ hath) (fun H locs hp182 hz9 hk9 hS => ?_)
                  obtain ⟨hx9, hth9⟩ := hp182
                  have hlr := rmi_len hIl
                  have kp := PT.kxt (tp := tp) (bs := as ++ [gg]) hk9
                  have hMg := hMg.kp kp (hk9 gg hMg.ob.choose_spec.lt (by rintro (z | z | z); exact absurd hMg.ob.choose_spec.lt (Nat.not_lt.mpr z); exact hgx z; exact hgn.2.2 z))
                  have hv3 := hv3.kp kp
                  have hR3 := hR3.rm hx6 cx.kk hk9 (by rw [hlr, show 25 - (as.length - 1) = 25 - as.length + 1 by omega]; exact hth9)
                  rw [← hlr] at hx9
                  exact l185 _ (rmi as I) r3 (Nat.lt_succ_self _) (rmi_sub as I) _ _ _ _ _ hS hx9 (by rw [e1]; exact hR3) hMg hv3 (by omega) (by omega) (lv_sub hl [1, 3, 4] rfl)
              · refine lv_aload_n hx hb dX4_keep_118 rfl (lv_at hl 2 rfl) ?_
                refine z_get cx (k0 := 10) Agg rfl in_X8 (by decide) q1307 rfl rfl dX4_keep_119 ?_
                refine lv_iload hx hb dX4_keep_122 (lv_at hl 4 rfl) ?_
                refine lv_aload_n hx hb dX4_keep_124 rfl (lv_at hl 0 rfl) ?_
                refine z_get cx (k0 := 6) hx9 rfl in_X4 (by decide) q1161 rfl rfl dX4_keep_125 ?_
                refine lv_aload_n hx hb dX4_keep_128 rfl (lv_at hl 2 rfl) ?_
                refine z_get cx (k0 := 9) Agg rfl in_X8 (by decide) q1306 rfl rfl dX4_keep_129 ?_
                refine lv_iload hx hb dX4_keep_132 (lv_at hl 4 rfl) ?_
                refine z_aald cx (t0 := 5) hAq rfl rfl (j) (by omega) dX4_keep_134 (fun x134 hx134 => ?_)
                obtain ⟨w, a, hw, rfl, hPa, hAa⟩ := hOq.gets hx134
                have nw := fun H1 => hR3.nw (H1 := H1) hx9 (mem2 Agg.lt Arw9.lt)
                have hwk := hkv.1 w (List.mem_of_getElem? hw)
                rw [kvC_drop hw] at hr1
                rw [kvS_drop hw] at hr2
                refine z_callS cx (j := 2) (m_X4_valueOf G l _ _ rt a cs lz w hR3.2.2.1 hAa ⟨hwk.1, Nat.le_trans hwk.2 (by omega)⟩ (mc := vC w none (gReq g)) (ms := vS w none (gReq g)) (by rw [hrq]; exact Nat.le_refl _) (by rw [hrq]; exact Nat.le_refl _)) (lw_S q1220 q1221 q57 q1222) (by decide +kernel) rfl (rest := [.int (iI ↑j), .ref rw9]) rfl hl (Nat.le_of_ble_eq_true rfl) (by decide) (by omega) dX4_keep_135 hS (fun q h => Or.inl (Nat.le_trans hS.1 h)) (fun v135 H locs hp135 hz9 hk9 hS => ?_)
                have hE9 := Ext.of hz9 hk9 (fun q h => h)
                obtain ⟨r9, rfl, hv9⟩ := hp135
                have hx9 := hx9.ext hE9
                have Agg := Agg.ext hE9
                have Arw9 := Arw9.ext hE9
                have hAq := hAq.ext hE9
                rw [hrq] at hv9
                have hR3 := hR3.ext hE9
                have htx := htx.ext hE9
                have hv3 := hv3.kp (Kp.ext hE9)
                have hrv := hrv.ext hE9
                have hO := hO.kp (Kp.ext hE9)
                have hv9 := hv9.kp (nw H)
                refine z_aastRq cx Arw9 hv9 (Or.inl hgrw9) hS (j) (by omega) dX4_keep_138 (fun H locs Arw9 hz9 hq9 hS => ?_)
                have hx9 := hx9.kept (hq9 _ hxw)
                have Agg := Agg.kept (hq9 _ hgw)
                have kq := kqp (H := _) hq9
                have kp := PT.kb (x := x) (tp := tp) (th := th) hwb kq
                have hR3 := hR3.kb hwb hwn kq
                have htx := htx.kp kp
                have hv3 := hv3.kp kp
                have hrv := hrv.kp kp
                have hO := (hO.snoc hv9).kp kp
                rw [← kVs_take hw] at hO
                have e2 : N - j = (N - (j + 1)) + 1 := by omega
                rw [e2, fillq_set hrl.symm] at Arw9
                refine z_iinc cx (j := 4) (z := ((j + 1 : Nat) : Int)) (lv' := [(6, .int (iI ((j + 1 : Nat) : Int))), (0, .ref x), (2, .ref t), (3, .ref gg), (4, va_rf r3)]) dX4_keep_139 hl rfl (by omega) (by decide) rfl (fun ls hl => ?_)
                refine lv_goto (tgt := 108) hx hb dX4_keep_142 (by decide) ?_
                exact ih_lp (j + 1) (rs ++ [r9]) (by omega) (by omega) (by rw [List.length_append, hrl]; rfl) _ _ _ _ _ hS hx9 Agg Arw9 hR3 htx hv3 hrv hO (by omega) (by omega) (lv_sub hl [1, 2, 3, 4, 0] rfl)
          exact lp _ 0 [] (Nat.lt_succ_self _) (Nat.zero_le _) rfl _ _ _ _ _ hS hx9 Agg (by rw [← hql]; exact Arw9) hR3 htx hv3 hrv (by rw [List.take_zero]; exact Ors.nil) (by rw [List.drop_zero]; omega) (by rw [List.drop_zero]; omega) (lv_sub hl [1, 2, 3, 4, 0] rfl)
      have gk := hgb
      refine z_callIN cx (j := 0) (m_X8_init G l _ gg Agg (mc := 0) (ms := 0)) (lw_meth q1293) q63 q1291 q1292 rfl (by decide +kernel) rfl (rest := [.ref gg]) rfl hl (Nat.le_of_ble_eq_true rfl) (by decide) (by omega) dX4_keep_38 hS (fun q h => by rcases h with h | h; exact Or.inl (Nat.le_trans hS.1 h); exact h ▸ hag) (fun H locs hp38 hz9 hk9 hS => ?_)
      have Agg := hp38
      have kp := PT.kb (x := x) (tp := tp) (th := th) hgb hk9
      have hR3 := hR3.kb hgb hgn hk9
      have htx := htx.kp kp
      have hx9 := hx9.kept (hk9 x hx9.lt (by rintro (z | z); exact absurd hx9.lt (Nat.not_lt.mpr z); exact hxg z))
      refine lv_astore_n (lv' := [(3, .ref gg), (2, .ref t), (0, .ref x), (1, .int (iI p0))]) hx hb dX4_keep_41 rfl hl (by decide) rfl (fun ls hl => ?_)
      refine lv_aload_n hx hb dX4_keep_42 rfl (lv_at hl 0 rfl) ?_
      refine lv_iload_n hx hb dX4_keep_43 rfl (lv_at hl 3 rfl) ?_
      refine z_put cx (k0 := 0) (vs' := [.int (iI p0), .int (iI (-2)), .int (iI (-2)), .int (iI 0), .int (iI 0), .int (iI 0), .int (iI 0), .int (iI 0), .null, .null, .null, .long 0]) Agg hag hS rfl in_X8 tyX8_ok nmX8 (by decide) q1295 rfl rfl  rfl (Nat.le_of_ble_eq_true rfl) ⟨rfl, rfl⟩ dX4_keep_44 (fun H locs Agg hz9 hq9 hS => ?_)
      have hx9 := hx9.kept (hq9 _ hxg)
      have kq := kqp (H := _) hq9
      have kp := PT.kb (x := x) (tp := tp) (th := th) hgb kq
      have hR3 := hR3.kb hgb hgn kq
      have htx := htx.kp kp
      refine lv_aload_n hx hb dX4_keep_47 rfl (lv_at hl 1 rfl) ?_
      refine z_callS cx (j := 0) (m_X4_cacheControl G l _ (mc := 1) (ms := 16) (Nat.le_refl _) (Nat.le_refl _)) (lw_S q1212 q1213 q57 q1214) (by decide +kernel) rfl (rest := [.ref t]) rfl hl (Nat.le_of_ble_eq_true rfl) (by decide) (by omega) dX4_keep_48 hS (fun q h => Or.inl (Nat.le_trans hS.1 h)) (fun v48 H locs hp48 hz9 hk9 hS => ?_)
      have hE9 := Ext.of hz9 hk9 (fun q h => h)
      obtain ⟨b, rfl, -, Ab⟩ := hp48
      have hx9 := hx9.ext hE9
      have Agg := Agg.ext hE9
      have hR3 := hR3.ext hE9
      have htx := htx.ext hE9
      have nw := fun H1 => hR3.nw (H1 := H1) hx9 (mem1 Agg.lt)
      refine z_callS cx (j := 2) (m_X4_valueOf G l _ _ t b (gTape g) (rdT (gTape g)).2 nCc htx Ab ok_cc (mc := vC nCc none (rdX g)) (ms := vS nCc none (rdX g)) (Nat.le_refl _) (Nat.le_refl _)) (lw_S q1220 q1221 q57 q1222) (by decide +kernel) rfl (rest := []) rfl hl (Nat.le_of_ble_eq_true rfl) (by decide) (by omega) dX4_keep_51 hS (fun q h => Or.inl (Nat.le_trans hS.1 h)) (fun v51 H locs hp51 hz9 hk9 hS => ?_)
      have hE9 := Ext.of hz9 hk9 (fun q h => h)
      obtain ⟨r3, rfl, hv3⟩ := hp51
      have hx9 := hx9.ext hE9
      have Agg := Agg.ext hE9
      have hR3 := hR3.ext hE9
      have htx := htx.ext hE9
      have hv3 : Orw G (PT x tp th (as ++ [gg])) H r3 (vof (rdX g) nCc) := hv3.kp (nw H)
      refine z_astoreq cx (lv' := [(4, va_rf r3), (3, .ref gg), (2, .ref t), (0, .ref x), (1, .int (iI p0))]) dX4_keep_54 hl (by decide) rfl (fun ls hl => ?_)
      refine lv_aload_n hx hb dX4_keep_56 rfl (lv_at hl 2 rfl) ?_
      refine lv_ldc2 hx hb cx.wn (cx.ts _ q1334) dX4_keep_57 ?_
      refine lv_lconst (v := 0) hx hb dX4_keep_60 (by decide) ?_
      refine z_callS cx (j := 2) (m_X4_name G l _ 1986097785 0 (mc := 1) (ms := 16) (Nat.le_refl _) (Nat.le_refl _)) (lw_S q1217 q1218 q57 q1219) (by decide +kernel) rfl (rest := [.ref t]) rfl hl (Nat.le_of_ble_eq_true rfl) (by decide) (by omega) dX4_keep_61 hS (fun q h => Or.inl (Nat.le_trans hS.1 h)) (fun v61 H locs hp61 hz9 hk9 hS => ?_)
      have hE9 := Ext.of hz9 hk9 (fun q h => h)
      obtain ⟨b2, rfl, hgb2, Ab2⟩ := hp61
      have hx9 := hx9.ext hE9
      have Agg := Agg.ext hE9
      rw [nm_vary] at Ab2
      have hR3 := hR3.ext hE9
      have htx := htx.ext hE9
      have hv3 := hv3.kp (Kp.ext hE9)
      refine z_callS cx (j := 2) (m_X4_valueOf G l _ _ t b2 (gTape g) (rdT (gTape g)).2 nVary htx Ab2 ok_vary (mc := vC nVary none (rdX g)) (ms := vS nVary none (rdX g)) (Nat.le_refl _) (Nat.le_refl _)) (lw_S q1220 q1221 q57 q1222) (by decide +kernel) rfl (rest := []) rfl hl (Nat.le_of_ble_eq_true rfl) (by decide) (by omega) dX4_keep_64 hS (fun q h => Or.inl (Nat.le_trans hS.1 h)) (fun v64 H locs hp64 hz9 hk9 hS => ?_)
      have hE9 := Ext.of hz9 hk9 (fun q h => h)
      obtain ⟨r5, rfl, hv5⟩ := hp64
      have hx9 := hx9.ext hE9
      have Agg := Agg.ext hE9
      have hR3 := hR3.ext hE9
      have htx := htx.ext hE9
      have hv3 := hv3.kp (Kp.ext hE9)
      have hv5 : Orw G (fun _ => True) H r5 (vof (rdX g) nVary) := hv5.kp (Kp.weak (fun _ _ _ => trivial))
      refine z_astoreq cx (lv' := [(5, va_rf r5), (4, va_rf r3), (3, .ref gg), (2, .ref t), (0, .ref x), (1, .int (iI p0))]) dX4_keep_67 hl (by decide) (by cases r3 <;> exact rfl) (fun ls hl => ?_)
      rcases r5 with _ | r5
      · have e5 : vof (rdX g) nVary = none := by cases h : vof (rdX g) nVary with | none => rfl | some y => rw [h] at hv5; exact hv5.elim
        have e6 : kVy (rdX g) = [] := by rw [kVy, e5]
        have e7 : vyC (rdX g) = 1 := by rw [vyC, e5]
        have e8 : vyS (rdX g) = 0 := by rw [vyS, e5]
        have nw := fun H1 => hR3.nw (H1 := H1) hx9 (mem1 Agg.lt)
        refine lv_aload_n hx hb dX4_keep_69 rfl (lv_at hl 2 rfl) ?_
        refine lv_aloadN hx hb dX4_keep_70 (lv_at hl 0 rfl) ?_
        refine lv_ifnonnullN hx hb dX4_keep_72 ?_
        refine lv_iconst (v := iI (0)) hx hb dX4_keep_75 rfl ?_
        refine z_newR cx hS q1242 (0) (by omega) (by omega) dX4_keep_76 (fun rv H hrv hgrv Arv hz9 hE9 hS => ?_)
        have hx9 := hx9.ext hE9
        have Agg := Agg.ext hE9
        refine lv_goto (tgt := 90) hx hb dX4_keep_79 (by decide) ?_
        have hR3 := hR3.ext hE9
        have htx := htx.ext hE9
        have hv3 := hv3.kp (Kp.ext hE9)
        have hPv := (nw H rv Arv.lt (Nat.le_of_eq hrv.symm)).1
        exact l90 _ rv r3 (Nat.lt_succ_self _)  _ _ _ _ _ hS hx9 Agg hR3 htx hv3 (by rw [e6]; exact Ors.nil.rq hPv Arv) (by omega) (by omega) (lv_sub hl [4, 3, 2, 1] rfl)
      · obtain ⟨v, hv⟩ : ∃ v, vof (rdX g) nVary = some v := by cases h : vof (rdX g) nVary with | none => rw [h] at hv5; exact hv5.elim | some y => exact ⟨y, rfl⟩
        rw [hv] at hv5
        have e6 : kVy (rdX g) = lst (v.map smI) := by rw [kVy, hv]
        have e7 : vyC (rdX g) = 1 + (v.length + 3) := by rw [vyC, hv]
        have e8 : vyS (rdX g) = v.length + (2 * v.length + 2) := by rw [vyS, hv]
        have hvc := (hvoT nVary).1 v hv
        have hvl := (hvoT nVary).2 v hv
        refine lv_aload_n hx hb dX4_keep_69 rfl (lv_at hl 2 rfl) ?_
        refine lv_aload hx hb dX4_keep_70 (lv_at hl 0 rfl) ?_
        refine lv_ifnonnull (tgt := 82) hx hb dX4_keep_72 (by decide) ?_
        refine lv_aload hx hb dX4_keep_82 (lv_at hl 0 rfl) ?_
        refine z_callS cx (j := 1) (m_X4_smallOf G l _ r5 v hv5.2 hvc (by omega) (mc := 1) (ms := v.length) (Nat.le_refl _) (Nat.le_refl _)) (lw_S q1261 q1262 q57 q1263) (by decide +kernel) rfl (rest := [.ref gg]) rfl hl (Nat.le_of_ble_eq_true rfl) (by decide) (by omega) dX4_keep_84 hS (fun q h => Or.inl (Nat.le_trans hS.1 h)) (fun v84 H locs hp84 hz9 hk9 hS => ?_)
        have hE9 := Ext.of hz9 hk9 (fun q h => h)
        obtain ⟨b3, rfl, -, Ab3⟩ := hp84
        have hx9 := hx9.ext hE9
        have Agg := Agg.ext hE9
        have hR3 := hR3.ext hE9
        have htx := htx.ext hE9
        have hv3 := hv3.kp (Kp.ext hE9)
        have nw := fun H1 => hR3.nw (H1 := H1) hx9 (mem1 Agg.lt)
        have hml : (v.map smI).length = v.length := List.length_map _
        refine z_callS cx (j := 1) (m_X4_list G l _ b3 (v.map smI) Ab3 (chs_map hvc) (by omega) (mc := v.length + 3) (ms := 2 * v.length + 2) (by omega) (by omega)) (lw_S q1239 q1240 q57 q1241) (by decide +kernel) rfl (rest := [.ref gg]) rfl hl (Nat.le_of_ble_eq_true rfl) (by decide) (by omega) dX4_keep_87 hS (fun q h => Or.inl (Nat.le_trans hS.1 h)) (fun v87 H locs hp87 hz9 hk9 hS => ?_)
        have hE9 := Ext.of hz9 hk9 (fun q h => h)
        obtain ⟨rv, rfl, hrv⟩ := hp87
        have hx9 := hx9.ext hE9
        have Agg := Agg.ext hE9
        have hR3 := hR3.ext hE9
        have htx := htx.ext hE9
        have hv3 := hv3.kp (Kp.ext hE9)
        rw [← e6] at hrv
        have hrv := hrv.kp (nw H)
        exact l90 _ rv r3 (Nat.lt_succ_self _)  _ _ _ _ _ hS hx9 Agg hR3 htx hv3 hrv (by omega) (by omega) (lv_sub hl [4, 3, 2, 1] rfl)
    · have hp9 := b2i_F c14
      have e9 : rdOk g p0 = false := decide_eq_false (fun h => hp9 h.2)
      refine lv_iconst (v := iI (1)) hx hb dX4_keep_17 rfl ?_
      refine lv_goto (tgt := 22) hx hb dX4_keep_18 (by decide) ?_
      refine z_put cx (k0 := 4) (vs' := [.ref tp, .int (iI 0), .int (iI ((rdT (gTape g)).1)), .int (iI (gTime g)), .int (iI 1), .long (lN (gUse g)), .ref rt, .ref th, .int (iI ↑as.length)]) hx9 hax hS rfl in_X4 tyX4_ok nmX4 (by decide) q1159 rfl rfl  rfl (Nat.le_of_ble_eq_true rfl) ⟨rfl, rfl⟩ dX4_keep_22 (fun H locs hx9 hz9 hq9 hS => ?_)
      have hR2 := hR2.kx hx7 cx.kk hq9
      refine lv_aload_n hx hb dX4_keep_25 rfl (lv_at hl 1 rfl) ?_
      refine z_get cx (k0 := 4) hx9 rfl in_X4 (by decide) q1159 rfl rfl dX4_keep_26 ?_
      refine z_if_eq cx (tgt := 34) dX4_keep_29 (by decide) (by omega) (fun c29 => (by exfalso; exact absurd c29 (by decide))) (fun c29 => ?_)
      refine lv_iconst (v := iI (0)) hx hb dX4_keep_32 rfl ?_
      exact z_iret cx hQ rfl rfl (bad e9 _ hx9 hR2) hS (by omega) dX4_keep_33
  · have e9 : rdOk g p0 = false := decide_eq_false (fun h => hf h.1)
    have hx7 := hx9
    refine lv_astore_nN (lv' := [(2, .null), (0, .ref x), (1, .int (iI p0))]) hx hb dX4_keep_4 rfl hl (by decide) rfl (fun ls hl => ?_)
    refine lv_aload_n hx hb dX4_keep_5 rfl (lv_at hl 1 rfl) ?_
    refine lv_aload_nN hx hb dX4_keep_6 rfl (lv_at hl 0 rfl) ?_
    refine lv_ifnullN (tgt := 17) hx hb dX4_keep_7 (by decide) ?_
    refine lv_iconst (v := iI (1)) hx hb dX4_keep_17 rfl ?_
    refine lv_goto (tgt := 22) hx hb dX4_keep_18 (by decide) ?_
    refine z_put cx (k0 := 4) (vs' := [.ref tp, .int (iI 0), .int (iI ((rdT (gTape g)).1)), .int (iI (gTime g)), .int (iI 1), .long (lN (gUse g)), .ref rt, .ref th, .int (iI ↑as.length)]) hx9 hax hS rfl in_X4 tyX4_ok nmX4 (by decide) q1159 rfl rfl  rfl (Nat.le_of_ble_eq_true rfl) ⟨rfl, rfl⟩ dX4_keep_22 (fun H locs hx9 hz9 hq9 hS => ?_)
    have hR2 := hR2.kx hx7 cx.kk hq9
    refine lv_aload_n hx hb dX4_keep_25 rfl (lv_at hl 1 rfl) ?_
    refine z_get cx (k0 := 4) hx9 rfl in_X4 (by decide) q1159 rfl rfl dX4_keep_26 ?_
    refine z_if_eq cx (tgt := 34) dX4_keep_29 (by decide) (by omega) (fun c29 => (by exfalso; exact absurd c29 (by decide))) (fun c29 => ?_)
    refine lv_iconst (v := iI (0)) hx hb dX4_keep_32 rfl ?_
    exact z_iret cx hQ rfl rfl (bad e9 _ hx9 hR2) hS (by omega) dX4_keep_33
