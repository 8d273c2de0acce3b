/-! ===== the model: purging ===== -/
set_option maxHeartbeats 4000000 in
set_option maxRecDepth 100000 in
theorem m_X4_purge (G : zE) (l : Launch) (H0 : Heap) (x : Nat) (z : Int) (thr : Int) (g : Sg) (hR : RepT G H0 x thr g) (hz : rg z) {mc ms : Nat}  : zR G l yX4_purge (ws_ yX4_purge cX4_purge 4 (some FieldType.int)) 1 22 mc ms [.ref x, .int (iI z)] H0 (fun r H1 => r = .int (iI (((gTs g).length - ((gTs g).filter (fun t => decide (tPath t ≠ z))).length : Nat) : Int)) ∧ RepT G H1 x 0 (gTape g, gFault g, gTime g, gReq g, (gTs g).filter (fun t => decide (tPath t ≠ z)), gUse g)) (AT G H0) := by
  refine zR.start (cc := cX4_purge) (by decide) (Nat.le_of_ble_eq_true rfl) ?_
  intro p e s m args below meth c Q cx hQ hmn ls hl
  have hx := cx.1
  have hb := cx.2.1
  have hS : va_S (AT G H0) H0 H0 [] := va_S.rf
  have hl : lv_has ls 4 [(0, .ref x), (1, .int (iI z))] := hl
  obtain ⟨tp, th, rt, as, pad, cs, lz, hx9, hR2, hm, hok⟩ := hR
  have hax := AT.x hx9 hm.2.2.2.1
  have hat := AT.a hR2.2.1 hm.2.2.2.2.2.1
  have hx8 := hx9
  have hl0 := hR2.2.2.2.1
  have hn24 := hok.2.2.2.2.1
  refine lv_aload_n hx hb dX4_purge_0 rfl (lv_at hl 0 rfl) ?_
  refine lv_iconst (v := iI (0)) hx hb dX4_purge_1 rfl ?_
  refine z_put cx (k0 := 4) (vs' := [.ref tp, .int (iI ((gTape g).length : Int)), .int (iI (gFault g)), .int (iI (gTime g)), .int (iI 0), .long (lN (gUse g)), .ref rt, .ref th, .int (iI ↑as.length)]) hx9 hax hS rfl in_X4 tyX4_ok nmX4 (by decide) q1159 rfl rfl  rfl (Nat.le_of_ble_eq_true rfl) ⟨rfl, rfl⟩ dX4_purge_2 (fun H locs hx9 hz9 hq9 hS => ?_)
  have hR2 := hR2.kx hx8 cx.kk hq9
  have hm9 := hm
  refine lv_iconst (v := iI (0)) hx hb dX4_purge_5 rfl ?_
  refine lv_istore_n (lv' := [(2, .int (iI 0)), (0, .ref x), (1, .int (iI z))]) hx hb dX4_purge_6 rfl hl (by decide) rfl (fun ls hl => ?_)
  refine lv_aload_n hx hb dX4_purge_7 rfl (lv_at hl 1 rfl) ?_
  refine z_get cx (k0 := 8) hx9 rfl in_X4 (by decide) q1163 rfl rfl dX4_purge_8 ?_
  refine lv_iconst (v := iI (1)) hx hb dX4_purge_11 rfl ?_
  refine z_isub cx (z := (as.length : Int) - 1) dX4_purge_12 (by omega) ?_
  refine lv_istore_n (lv' := [(3, .int (iI ((as.length : Int) - 1))), (2, .int (iI 0)), (0, .ref x), (1, .int (iI z))]) hx hb dX4_purge_13 rfl hl (by decide) rfl (fun ls hl => ?_)
  have lp : ∀ (fuel : Nat) (j d : Nat) (bs : List Nat) (us : List Th), j < fuel → (j ≤ (gTs g).length) → (us = (gTs g).take j ++ ((gTs g).drop j).filter (fun t => decide (tPath t ≠ z))) → (d + (((gTs g).drop j).filter (fun t => decide (tPath t ≠ z))).length = (gTs g).length - j) → (bs.Nodup ∧ (∀ a ∈ bs, a ∈ as) ∧ bs.length ≤ 24) → ∀ (H : Heap) (locs : List Loc) (ls : Array Slot) (k n : Nat), va_S (AT G H0) H0 H locs → Ob G H x 5 [.ref tp, .int (iI ((gTape g).length : Int)), .int (iI (gFault g)), .int (iI (gTime g)), .int (iI 0), .long (lN (gUse g)), .ref rt, .ref th, .int (iI ↑bs.length)] → (RT2 G H x tp th rt bs (gTape g) pad cs lz us) → (k ≤ mc) → (n ≤ ms) → lv_has ls 4 [(0, .ref x), (1, .int (iI z)), (2, .int (iI ↑d)), (3, .int (iI ((j : Int) - 1)))] → W p l e ⟨1, mc, ms, 22⟩ s m args below meth c H locs k n Q (F0 m 14 ls []) := by
    intro fuel
    induction fuel with
    | zero => intro j d bs us hf9; exact absurd hf9 (Nat.not_lt_zero _)
    | succ fuel ih_lp =>
      intro j d bs us hf9 hj hus hd hm H locs ls k n hS hx9 hR2 hr1 hr2 hl
      refine lv_iload_n hx hb dX4_purge_14 rfl (lv_at hl 3 rfl) ?_
      refine z_if_lt cx (tgt := 45) dX4_purge_15 (by decide) (by omega) (fun c15 => ?_) (fun c15 => ?_)
      · have e1 : j = 0 := by omega
        subst e1
        rw [List.take_zero, List.nil_append, List.drop_zero] at hus
        rw [List.drop_zero] at hd
        subst hus
        refine lv_iload_n hx hb dX4_purge_45 rfl (lv_at hl 2 rfl) ?_
        exact z_iret cx hQ rfl rfl (⟨by rw [show d = (gTs g).length - ((gTs g).filter (fun t => decide (tPath t ≠ z))).length by omega], tp, th, rt, bs, pad, cs, lz, hx9, hR2, ⟨hm9.1, hm9.2.1, hm.1, hm9.2.2.2.1, hm9.2.2.2.2.1, hm9.2.2.2.2.2.1, fun a ha => hm9.2.2.2.2.2.2 a (hm.2.1 a ha)⟩, ⟨hok.1, hok.2.1, hok.2.2.1, hok.2.2.2.1, by show ((gTs g).filter _).length ≤ 24; rw [← hR2.2.2.2.1]; exact hm.2.2, hok.2.2.2.2.2⟩⟩) hS (by omega) dX4_purge_46
      · obtain ⟨J, rfl⟩ : ∃ J, j = J + 1 := ⟨j - 1, by omega⟩
        rw [show (((J + 1 : Nat) : Int) - 1) = (J : Int) by omega] at hl
        have hAth := hR2.2.1
        have hJ : J < (gTs g).length := by omega
        have hbl := hR2.2.2.2.1
        have hul : us.length = J + 1 + (((gTs g).drop (J + 1)).filter (fun t => decide (tPath t ≠ z))).length := by rw [hus, List.length_append, List.length_take]; omega
        have hL : (bs.map some ++ List.replicate (25 - bs.length) none).length = 25 := by rw [List.length_append, List.length_map, List.length_replicate]; omega
        refine lv_aload_n hx hb dX4_purge_18 rfl (lv_at hl 0 rfl) ?_
        refine z_get cx (k0 := 7) hx9 rfl in_X4 (by decide) q1162 rfl rfl dX4_purge_19 ?_
        refine lv_iload_n hx hb dX4_purge_22 rfl (lv_at hl 3 rfl) ?_
        refine z_aald cx (t0 := 4) hAth rfl rfl (J) (by omega) dX4_purge_23 (fun x23 hx23 => ?_)
        obtain ⟨a, ha, rfl⟩ := gas hx23 (by omega)
        obtain ⟨t, ht, tok, re, rv, rw9, hOg, -⟩ := hR2.2.2.2.get ha
        have htg : (gTs g)[J]? = some t := by rw [hus, List.getElem?_append_left (by rw [List.length_take]; omega), List.getElem?_take] at ht; rw [if_pos (by omega)] at ht; exact ht
        have hdr := drop_s htg
        have htk : (gTs g).take (J + 1) = (gTs g).take J ++ [t] := by obtain ⟨q1, q2⟩ := List.getElem?_eq_some_iff.mp htg; rw [List.take_succ_eq_append_getElem q1, q2]
        have tpr := tok.2.2.2.2.2.2.2.2.2.2.1
        refine z_get cx (k0 := 0) hOg rfl in_X8 (by decide) q1295 rfl rfl dX4_purge_24 ?_
        refine lv_iload_n hx hb dX4_purge_27 rfl (lv_at hl 1 rfl) ?_
        refine z_icmp_ne cx (tgt := 39) dX4_purge_28 (by decide) (by omega) (fun c28 => ?_) (fun c28 => ?_)
        · have e2 : ((gTs g).drop J).filter (fun t => decide (tPath t ≠ z)) = t :: ((gTs g).drop (J + 1)).filter (fun t => decide (tPath t ≠ z)) := by rw [hdr, List.filter_cons, if_pos (by simpa using c28)]
          refine z_iinc cx (j := 3) (z := (J : Int) - 1) (lv' := [(3, .int (iI ((J : Int) - 1))), (0, .ref x), (1, .int (iI z)), (2, .int (iI ↑d))]) dX4_purge_39 hl rfl (by omega) (by decide) rfl (fun ls hl => ?_)
          refine lv_goto (tgt := 14) hx hb dX4_purge_42 (by decide) ?_
          exact ih_lp J d bs us (by omega) (by omega) (by rw [hus, htk, e2, List.append_assoc]; rfl) (by rw [e2, List.length_cons]; omega) hm _ _ _ _ _ hS hx9 hR2 (by omega) (by omega) (lv_sub hl [1, 2, 3, 0] rfl)
        · have e2 : ((gTs g).drop J).filter (fun t => decide (tPath t ≠ z)) = ((gTs g).drop (J + 1)).filter (fun t => decide (tPath t ≠ z)) := by rw [hdr, List.filter_cons, if_neg (by simpa using c28)]
          refine lv_aload_n hx hb dX4_purge_31 rfl (lv_at hl 0 rfl) ?_
          refine lv_iload_n hx hb dX4_purge_32 rfl (lv_at hl 3 rfl) ?_
          have hx7 := hx9
          refine z_callVv cx (j := 1) (m_X4_takeOut G l _ x th J bs (25 - bs.length) _ _ _ _ _ _ _ hx9 hAth hR2.2.2.2.ob (by omega) (by omega) (mc := 0) (ms := 0)) (lw_V q1362 q1364 qs28 q57 q1365) (zrecv cx hx9 rfl) (by decide +kernel) rfl (rest := []) rfl hl (Nat.le_of_ble_eq_true rfl) (by decide) (by omega) dX4_purge_33 hS (fun q h => by rcases h with h | h | h; exact Or.inl (Nat.le_trans hS.1 h); exact h ▸ hax; exact h ▸ hat) (fun H locs hp33 hz9 hk9 hS => ?_)
          obtain ⟨hx9, hth9⟩ := hp33
          have hrl : (rmi bs J).length = bs.length - 1 := rmi_len (by omega)
          have hR2 := hR2.rm hx7 cx.kk hk9 (by rw [hrl, show 25 - (bs.length - 1) = 25 - bs.length + 1 by omega]; exact hth9)
          refine z_iinc cx (j := 2) (z := ((d + 1 : Nat) : Int)) (lv' := [(2, .int (iI ((d + 1 : Nat) : Int))), (0, .ref x), (1, .int (iI z)), (3, .int (iI ↑J))]) dX4_purge_36 hl rfl (by omega) (by decide) rfl (fun ls hl => ?_)
          refine z_iinc cx (j := 3) (z := (J : Int) - 1) (lv' := [(3, .int (iI ((J : Int) - 1))), (2, .int (iI ((d + 1 : Nat) : Int))), (0, .ref x), (1, .int (iI z))]) dX4_purge_39 hl rfl (by omega) (by decide) rfl (fun ls hl => ?_)
          refine lv_goto (tgt := 14) hx hb dX4_purge_42 (by decide) ?_
          exact ih_lp J (d + 1) (rmi bs J) (rmi us J) (by omega) (by omega) (by rw [e2, hus, rmi, List.take_append_of_le_length (by rw [List.length_take]; omega), List.take_take, Nat.min_eq_left (by omega), List.drop_append, List.length_take, Nat.min_eq_left (by omega), List.drop_eq_nil_of_le (by rw [List.length_take]; omega), Nat.sub_self, List.drop_zero, List.nil_append]) (by rw [e2]; omega) ⟨hm.1.sublist (rmi_sub _ _), fun b hb => hm.2.1 b (rmi_mem hb), by rw [hrl]; omega⟩ _ _ _ _ _ hS (by rw [hrl]; exact hx9) hR2 (by omega) (by omega) (lv_sub hl [2, 3, 1, 0] rfl)
  have hm9 := hm
  exact lp _ as.length 0 as (gTs g) (Nat.lt_succ_self _) (by omega) (by rw [hl0, List.take_length, List.drop_length]; simp) (by rw [hl0, List.drop_length]; simp) ⟨hm.2.2.1, fun a ha => ha, by omega⟩ _ _ _ _ _ hS hx9 hR2 (by omega) (by omega) (lv_sub hl [2, 3, 1, 0] rfl)
